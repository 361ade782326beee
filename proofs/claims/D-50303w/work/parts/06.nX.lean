/-! FoldLister$Page -/
set_option maxRecDepth 100000
def RX2 : String := "FoldLister$Page"
def TX2 : u_T := fun k => match k with
  | 0 => ("FoldLister$Page", "lines", "Ljava/util/List;", true)
  | 1 => ("FoldLister$Page", "markers", "[I", true)
  | 2 => ("FoldLister$Page", "cursor", "I", false)
  | 3 => ("FoldLister$Page", "came", "I", false)
  | 4 => ("FoldLister$Page", "back", "Ljava/util/LinkedList;", true)
  | 5 => ("FoldLister$Page", "forward", "Ljava/util/LinkedList;", true)
  | _ => ("FoldLister$Page", "layout", "LFoldLister$Page$Layout;", false)
def tyX2 : Nat → FieldType := fun k => match k with
  | 0 => .object "java/util/List"
  | 1 => .array .int
  | 2 => .int
  | 3 => .int
  | 4 => .object "java/util/LinkedList"
  | 5 => .object "java/util/LinkedList"
  | _ => .object "FoldLister$Page$Layout"
abbrev wsX20 : List Cond := u_ws RX2 TX2 7
theorem nmX2 : ∀ a, a < 7 → ∀ b, b < 7 → a ≠ b → (TX2 a).2.1 ≠ (TX2 b).2.1 := by decide +kernel
theorem tyX2_ok : ∀ k, k < 7 → parseFieldDescriptor (TX2 k).2.2.1 = some (tyX2 k) := by decide +kernel
abbrev cX2_init : ByteArray := prog_12_method_1_code
def yX2_init : MethodName := ⟨RX2, "<init>", "()V"⟩
def dkwX2_init_3 : List UInt8 := [177]
abbrev dktX2_init_3 : List UInt8 := dkwX2_init_3 ++ []
def dkwX2_init_2 : List UInt8 := [181, 0, 33, 3, 60, 27, 16, 10, 162, 0, 16, 42, 180, 0, 18, 27, 2, 79, 132, 1, 1, 167, 255, 240]
abbrev dktX2_init_2 : List UInt8 := dkwX2_init_2 ++ dktX2_init_3
def dkwX2_init_1 : List UInt8 := [2, 181, 0, 22, 42, 187, 0, 26, 89, 183, 0, 28, 181, 0, 29, 42, 187, 0, 26, 89, 183, 0, 28]
abbrev dktX2_init_1 : List UInt8 := dkwX2_init_1 ++ dktX2_init_2
def dkwX2_init_0 : List UInt8 := [42, 183, 0, 3, 42, 187, 0, 9, 89, 183, 0, 11, 181, 0, 12, 42, 16, 10, 188, 10, 181, 0, 18, 42]
abbrev dktX2_init_0 : List UInt8 := dkwX2_init_0 ++ dktX2_init_1
theorem dksX2_init_0 : cX2_init.data.toList.drop 0 = dktX2_init_0 := by decide +kernel
theorem dksX2_init_1 : cX2_init.data.toList.drop 24 = dktX2_init_1 := dk_seg dksX2_init_0 24 rfl rfl
theorem dksX2_init_2 : cX2_init.data.toList.drop 47 = dktX2_init_2 := dk_seg dksX2_init_1 23 rfl rfl
theorem dksX2_init_3 : cX2_init.data.toList.drop 71 = dktX2_init_3 := dk_seg dksX2_init_2 24 rfl rfl
theorem dX2_init_0 : decode cX2_init 0 = .ok (.aload_n 0, 1) := dk_42 (dk_at dksX2_init_0 0 rfl rfl)
theorem dX2_init_1 : decode cX2_init 1 = .ok (.invokespecial 3, 3) := dk_183 0 3 (dk_at dksX2_init_0 1 rfl rfl)
theorem dX2_init_4 : decode cX2_init 4 = .ok (.aload_n 0, 1) := dk_42 (dk_at dksX2_init_0 4 rfl rfl)
theorem dX2_init_5 : decode cX2_init 5 = .ok (.new 9, 3) := dk_187 0 9 (dk_at dksX2_init_0 5 rfl rfl)
theorem dX2_init_8 : decode cX2_init 8 = .ok (.dup, 1) := dk_89 (dk_at dksX2_init_0 8 rfl rfl)
theorem dX2_init_9 : decode cX2_init 9 = .ok (.invokespecial 11, 3) := dk_183 0 11 (dk_at dksX2_init_0 9 rfl rfl)
theorem dX2_init_12 : decode cX2_init 12 = .ok (.putfield 12, 3) := dk_181 0 12 (dk_at dksX2_init_0 12 rfl rfl)
theorem dX2_init_15 : decode cX2_init 15 = .ok (.aload_n 0, 1) := dk_42 (dk_at dksX2_init_0 15 rfl rfl)
theorem dX2_init_16 : decode cX2_init 16 = .ok (.bipush 10, 2) := dk_16 10 (dk_at dksX2_init_0 16 rfl rfl)
theorem dX2_init_18 : decode cX2_init 18 = .ok (.newarray .int, 2) := dk_188_10 (dk_at dksX2_init_0 18 rfl rfl)
theorem dX2_init_20 : decode cX2_init 20 = .ok (.putfield 18, 3) := dk_181 0 18 (dk_at dksX2_init_0 20 rfl rfl)
theorem dX2_init_23 : decode cX2_init 23 = .ok (.aload_n 0, 1) := dk_42 (dk_at dksX2_init_0 23 rfl rfl)
theorem dX2_init_24 : decode cX2_init 24 = .ok (.iconst (-1), 1) := dk_2 (dk_at dksX2_init_1 0 rfl rfl)
theorem dX2_init_25 : decode cX2_init 25 = .ok (.putfield 22, 3) := dk_181 0 22 (dk_at dksX2_init_1 1 rfl rfl)
theorem dX2_init_28 : decode cX2_init 28 = .ok (.aload_n 0, 1) := dk_42 (dk_at dksX2_init_1 4 rfl rfl)
theorem dX2_init_29 : decode cX2_init 29 = .ok (.new 26, 3) := dk_187 0 26 (dk_at dksX2_init_1 5 rfl rfl)
theorem dX2_init_32 : decode cX2_init 32 = .ok (.dup, 1) := dk_89 (dk_at dksX2_init_1 8 rfl rfl)
theorem dX2_init_33 : decode cX2_init 33 = .ok (.invokespecial 28, 3) := dk_183 0 28 (dk_at dksX2_init_1 9 rfl rfl)
theorem dX2_init_36 : decode cX2_init 36 = .ok (.putfield 29, 3) := dk_181 0 29 (dk_at dksX2_init_1 12 rfl rfl)
theorem dX2_init_39 : decode cX2_init 39 = .ok (.aload_n 0, 1) := dk_42 (dk_at dksX2_init_1 15 rfl rfl)
theorem dX2_init_40 : decode cX2_init 40 = .ok (.new 26, 3) := dk_187 0 26 (dk_at dksX2_init_1 16 rfl rfl)
theorem dX2_init_43 : decode cX2_init 43 = .ok (.dup, 1) := dk_89 (dk_at dksX2_init_1 19 rfl rfl)
theorem dX2_init_44 : decode cX2_init 44 = .ok (.invokespecial 28, 3) := dk_183 0 28 (dk_at dksX2_init_1 20 rfl rfl)
theorem dX2_init_47 : decode cX2_init 47 = .ok (.putfield 33, 3) := dk_181 0 33 (dk_at dksX2_init_2 0 rfl rfl)
theorem dX2_init_50 : decode cX2_init 50 = .ok (.iconst 0, 1) := dk_3 (dk_at dksX2_init_2 3 rfl rfl)
theorem dX2_init_51 : decode cX2_init 51 = .ok (.istore_n 1, 1) := dk_60 (dk_at dksX2_init_2 4 rfl rfl)
theorem dX2_init_52 : decode cX2_init 52 = .ok (.iload_n 1, 1) := dk_27 (dk_at dksX2_init_2 5 rfl rfl)
theorem dX2_init_53 : decode cX2_init 53 = .ok (.bipush 10, 2) := dk_16 10 (dk_at dksX2_init_2 6 rfl rfl)
theorem dX2_init_55 : decode cX2_init 55 = .ok (.if_icmp .ge 16, 3) := dk_162 0 16 (dk_at dksX2_init_2 8 rfl rfl)
theorem dX2_init_58 : decode cX2_init 58 = .ok (.aload_n 0, 1) := dk_42 (dk_at dksX2_init_2 11 rfl rfl)
theorem dX2_init_59 : decode cX2_init 59 = .ok (.getfield 18, 3) := dk_180 0 18 (dk_at dksX2_init_2 12 rfl rfl)
theorem dX2_init_62 : decode cX2_init 62 = .ok (.iload_n 1, 1) := dk_27 (dk_at dksX2_init_2 15 rfl rfl)
theorem dX2_init_63 : decode cX2_init 63 = .ok (.iconst (-1), 1) := dk_2 (dk_at dksX2_init_2 16 rfl rfl)
theorem dX2_init_64 : decode cX2_init 64 = .ok (.iastore, 1) := dk_79 (dk_at dksX2_init_2 17 rfl rfl)
theorem dX2_init_65 : decode cX2_init 65 = .ok (.iinc 1 1, 3) := dk_132 1 1 (dk_at dksX2_init_2 18 rfl rfl)
theorem dX2_init_68 : decode cX2_init 68 = .ok (.goto (-16), 3) := dk_167 255 240 (dk_at dksX2_init_2 21 rfl rfl)
theorem dX2_init_71 : decode cX2_init 71 = .ok (.return_, 1) := dk_177 (dk_at dksX2_init_3 0 rfl rfl)
abbrev cX2_indexOf : ByteArray := prog_12_method_5_code
def yX2_indexOf : MethodName := ⟨RX2, "indexOf", "(I)I"⟩
def dkwX2_indexOf_1 : List UInt8 := [132, 2, 1, 167, 255, 231, 2, 172]
abbrev dktX2_indexOf_1 : List UInt8 := dkwX2_indexOf_1 ++ []
def dkwX2_indexOf_0 : List UInt8 := [3, 61, 28, 42, 182, 0, 63, 162, 0, 23, 42, 28, 182, 0, 64, 180, 0, 68, 27, 160, 0, 5, 28, 172]
abbrev dktX2_indexOf_0 : List UInt8 := dkwX2_indexOf_0 ++ dktX2_indexOf_1
theorem dksX2_indexOf_0 : cX2_indexOf.data.toList.drop 0 = dktX2_indexOf_0 := by decide +kernel
theorem dksX2_indexOf_1 : cX2_indexOf.data.toList.drop 24 = dktX2_indexOf_1 := dk_seg dksX2_indexOf_0 24 rfl rfl
theorem dX2_indexOf_0 : decode cX2_indexOf 0 = .ok (.iconst 0, 1) := dk_3 (dk_at dksX2_indexOf_0 0 rfl rfl)
theorem dX2_indexOf_1 : decode cX2_indexOf 1 = .ok (.istore_n 2, 1) := dk_61 (dk_at dksX2_indexOf_0 1 rfl rfl)
theorem dX2_indexOf_2 : decode cX2_indexOf 2 = .ok (.iload_n 2, 1) := dk_28 (dk_at dksX2_indexOf_0 2 rfl rfl)
theorem dX2_indexOf_3 : decode cX2_indexOf 3 = .ok (.aload_n 0, 1) := dk_42 (dk_at dksX2_indexOf_0 3 rfl rfl)
theorem dX2_indexOf_4 : decode cX2_indexOf 4 = .ok (.invokevirtual 63, 3) := dk_182 0 63 (dk_at dksX2_indexOf_0 4 rfl rfl)
theorem dX2_indexOf_7 : decode cX2_indexOf 7 = .ok (.if_icmp .ge 23, 3) := dk_162 0 23 (dk_at dksX2_indexOf_0 7 rfl rfl)
theorem dX2_indexOf_10 : decode cX2_indexOf 10 = .ok (.aload_n 0, 1) := dk_42 (dk_at dksX2_indexOf_0 10 rfl rfl)
theorem dX2_indexOf_11 : decode cX2_indexOf 11 = .ok (.iload_n 2, 1) := dk_28 (dk_at dksX2_indexOf_0 11 rfl rfl)
theorem dX2_indexOf_12 : decode cX2_indexOf 12 = .ok (.invokevirtual 64, 3) := dk_182 0 64 (dk_at dksX2_indexOf_0 12 rfl rfl)
theorem dX2_indexOf_15 : decode cX2_indexOf 15 = .ok (.getfield 68, 3) := dk_180 0 68 (dk_at dksX2_indexOf_0 15 rfl rfl)
theorem dX2_indexOf_18 : decode cX2_indexOf 18 = .ok (.iload_n 1, 1) := dk_27 (dk_at dksX2_indexOf_0 18 rfl rfl)
theorem dX2_indexOf_19 : decode cX2_indexOf 19 = .ok (.if_icmp .ne 5, 3) := dk_160 0 5 (dk_at dksX2_indexOf_0 19 rfl rfl)
theorem dX2_indexOf_22 : decode cX2_indexOf 22 = .ok (.iload_n 2, 1) := dk_28 (dk_at dksX2_indexOf_0 22 rfl rfl)
theorem dX2_indexOf_23 : decode cX2_indexOf 23 = .ok (.ireturn, 1) := dk_172 (dk_at dksX2_indexOf_0 23 rfl rfl)
theorem dX2_indexOf_24 : decode cX2_indexOf 24 = .ok (.iinc 2 1, 3) := dk_132 2 1 (dk_at dksX2_indexOf_1 0 rfl rfl)
theorem dX2_indexOf_27 : decode cX2_indexOf 27 = .ok (.goto (-25), 3) := dk_167 255 231 (dk_at dksX2_indexOf_1 3 rfl rfl)
theorem dX2_indexOf_30 : decode cX2_indexOf 30 = .ok (.iconst (-1), 1) := dk_2 (dk_at dksX2_indexOf_1 6 rfl rfl)
theorem dX2_indexOf_31 : decode cX2_indexOf 31 = .ok (.ireturn, 1) := dk_172 (dk_at dksX2_indexOf_1 7 rfl rfl)
abbrev cX2_size : ByteArray := prog_12_method_3_code
def yX2_size : MethodName := ⟨RX2, "size", "()I"⟩
def dkwX2_size_0 : List UInt8 := [42, 180, 0, 12, 185, 0, 53, 1, 0, 172]
abbrev dktX2_size_0 : List UInt8 := dkwX2_size_0 ++ []
theorem dksX2_size_0 : cX2_size.data.toList.drop 0 = dktX2_size_0 := by decide +kernel
theorem dX2_size_0 : decode cX2_size 0 = .ok (.aload_n 0, 1) := dk_42 (dk_at dksX2_size_0 0 rfl rfl)
theorem dX2_size_1 : decode cX2_size 1 = .ok (.getfield 12, 3) := dk_180 0 12 (dk_at dksX2_size_0 1 rfl rfl)
theorem dX2_size_4 : decode cX2_size 4 = .ok (.invokeinterface 53 1, 5) := by decide +kernel
theorem dX2_size_9 : decode cX2_size 9 = .ok (.ireturn, 1) := dk_172 (dk_at dksX2_size_0 9 rfl rfl)
abbrev cX2_line : ByteArray := prog_12_method_4_code
def yX2_line : MethodName := ⟨RX2, "line", "(I)LFoldLister$Line;"⟩
def dkwX2_line_0 : List UInt8 := [42, 180, 0, 12, 27, 185, 0, 57, 2, 0, 192, 0, 61, 176]
abbrev dktX2_line_0 : List UInt8 := dkwX2_line_0 ++ []
theorem dksX2_line_0 : cX2_line.data.toList.drop 0 = dktX2_line_0 := by decide +kernel
theorem dX2_line_0 : decode cX2_line 0 = .ok (.aload_n 0, 1) := dk_42 (dk_at dksX2_line_0 0 rfl rfl)
theorem dX2_line_1 : decode cX2_line 1 = .ok (.getfield 12, 3) := dk_180 0 12 (dk_at dksX2_line_0 1 rfl rfl)
theorem dX2_line_4 : decode cX2_line 4 = .ok (.iload_n 1, 1) := dk_27 (dk_at dksX2_line_0 4 rfl rfl)
theorem dX2_line_5 : decode cX2_line 5 = .ok (.invokeinterface 57 2, 5) := by decide +kernel
theorem dX2_line_10 : decode cX2_line 10 = .ok (.checkcast 61, 3) := dk_192 0 61 (dk_at dksX2_line_0 10 rfl rfl)
theorem dX2_line_13 : decode cX2_line 13 = .ok (.areturn, 1) := dk_176 (dk_at dksX2_line_0 13 rfl rfl)
abbrev cX2_layout : ByteArray := prog_12_method_7_code
def yX2_layout : MethodName := ⟨RX2, "layout", "()LFoldLister$Page$Layout;"⟩
def dkwX2_layout_0 : List UInt8 := [42, 180, 0, 74, 199, 0, 15, 42, 187, 0, 78, 89, 42, 183, 0, 80, 181, 0, 74, 42, 180, 0, 74, 176]
abbrev dktX2_layout_0 : List UInt8 := dkwX2_layout_0 ++ []
theorem dksX2_layout_0 : cX2_layout.data.toList.drop 0 = dktX2_layout_0 := by decide +kernel
theorem dX2_layout_0 : decode cX2_layout 0 = .ok (.aload_n 0, 1) := dk_42 (dk_at dksX2_layout_0 0 rfl rfl)
theorem dX2_layout_1 : decode cX2_layout 1 = .ok (.getfield 74, 3) := dk_180 0 74 (dk_at dksX2_layout_0 1 rfl rfl)
theorem dX2_layout_4 : decode cX2_layout 4 = .ok (.ifnonnull 15, 3) := dk_199 0 15 (dk_at dksX2_layout_0 4 rfl rfl)
theorem dX2_layout_7 : decode cX2_layout 7 = .ok (.aload_n 0, 1) := dk_42 (dk_at dksX2_layout_0 7 rfl rfl)
theorem dX2_layout_8 : decode cX2_layout 8 = .ok (.new 78, 3) := dk_187 0 78 (dk_at dksX2_layout_0 8 rfl rfl)
theorem dX2_layout_11 : decode cX2_layout 11 = .ok (.dup, 1) := dk_89 (dk_at dksX2_layout_0 11 rfl rfl)
theorem dX2_layout_12 : decode cX2_layout 12 = .ok (.aload_n 0, 1) := dk_42 (dk_at dksX2_layout_0 12 rfl rfl)
theorem dX2_layout_13 : decode cX2_layout 13 = .ok (.invokespecial 80, 3) := dk_183 0 80 (dk_at dksX2_layout_0 13 rfl rfl)
theorem dX2_layout_16 : decode cX2_layout 16 = .ok (.putfield 74, 3) := dk_181 0 74 (dk_at dksX2_layout_0 16 rfl rfl)
theorem dX2_layout_19 : decode cX2_layout 19 = .ok (.aload_n 0, 1) := dk_42 (dk_at dksX2_layout_0 19 rfl rfl)
theorem dX2_layout_20 : decode cX2_layout 20 = .ok (.getfield 74, 3) := dk_180 0 74 (dk_at dksX2_layout_0 20 rfl rfl)
theorem dX2_layout_23 : decode cX2_layout 23 = .ok (.areturn, 1) := dk_176 (dk_at dksX2_layout_0 23 rfl rfl)
abbrev cX2_iterator : ByteArray := prog_12_method_9_code
def yX2_iterator : MethodName := ⟨RX2, "iterator", "()Ljava/util/Iterator;"⟩
def dkwX2_iterator_0 : List UInt8 := [187, 0, 83, 89, 42, 183, 0, 85, 176]
abbrev dktX2_iterator_0 : List UInt8 := dkwX2_iterator_0 ++ []
theorem dksX2_iterator_0 : cX2_iterator.data.toList.drop 0 = dktX2_iterator_0 := by decide +kernel
theorem dX2_iterator_0 : decode cX2_iterator 0 = .ok (.new 83, 3) := dk_187 0 83 (dk_at dksX2_iterator_0 0 rfl rfl)
theorem dX2_iterator_3 : decode cX2_iterator 3 = .ok (.dup, 1) := dk_89 (dk_at dksX2_iterator_0 3 rfl rfl)
theorem dX2_iterator_4 : decode cX2_iterator 4 = .ok (.aload_n 0, 1) := dk_42 (dk_at dksX2_iterator_0 4 rfl rfl)
theorem dX2_iterator_5 : decode cX2_iterator 5 = .ok (.invokespecial 85, 3) := dk_183 0 85 (dk_at dksX2_iterator_0 5 rfl rfl)
theorem dX2_iterator_8 : decode cX2_iterator 8 = .ok (.areturn, 1) := dk_176 (dk_at dksX2_iterator_0 8 rfl rfl)
abbrev cX2_copy : ByteArray := prog_12_method_2_code
def yX2_copy : MethodName := ⟨RX2, "copy", "()LFoldLister$Page;"⟩
def dkwX2_copy_3 : List UInt8 := [180, 0, 33, 182, 0, 52, 87, 43, 176]
abbrev dktX2_copy_3 : List UInt8 := dkwX2_copy_3 ++ []
def dkwX2_copy_2 : List UInt8 := [180, 0, 49, 181, 0, 49, 43, 180, 0, 29, 42, 180, 0, 29, 182, 0, 52, 87, 43, 180, 0, 33, 42]
abbrev dktX2_copy_2 : List UInt8 := dkwX2_copy_2 ++ dktX2_copy_3
def dkwX2_copy_1 : List UInt8 := [180, 0, 18, 3, 43, 180, 0, 18, 3, 16, 10, 184, 0, 43, 43, 42, 180, 0, 22, 181, 0, 22, 43, 42]
abbrev dktX2_copy_1 : List UInt8 := dkwX2_copy_1 ++ dktX2_copy_2
def dkwX2_copy_0 : List UInt8 := [187, 0, 13, 89, 183, 0, 36, 76, 43, 180, 0, 12, 42, 180, 0, 12, 185, 0, 37, 2, 0, 87, 42]
abbrev dktX2_copy_0 : List UInt8 := dkwX2_copy_0 ++ dktX2_copy_1
theorem dksX2_copy_0 : cX2_copy.data.toList.drop 0 = dktX2_copy_0 := by decide +kernel
theorem dksX2_copy_1 : cX2_copy.data.toList.drop 23 = dktX2_copy_1 := dk_seg dksX2_copy_0 23 rfl rfl
theorem dksX2_copy_2 : cX2_copy.data.toList.drop 47 = dktX2_copy_2 := dk_seg dksX2_copy_1 24 rfl rfl
theorem dksX2_copy_3 : cX2_copy.data.toList.drop 70 = dktX2_copy_3 := dk_seg dksX2_copy_2 23 rfl rfl
theorem dX2_copy_0 : decode cX2_copy 0 = .ok (.new 13, 3) := dk_187 0 13 (dk_at dksX2_copy_0 0 rfl rfl)
theorem dX2_copy_3 : decode cX2_copy 3 = .ok (.dup, 1) := dk_89 (dk_at dksX2_copy_0 3 rfl rfl)
theorem dX2_copy_4 : decode cX2_copy 4 = .ok (.invokespecial 36, 3) := dk_183 0 36 (dk_at dksX2_copy_0 4 rfl rfl)
theorem dX2_copy_7 : decode cX2_copy 7 = .ok (.astore_n 1, 1) := dk_76 (dk_at dksX2_copy_0 7 rfl rfl)
theorem dX2_copy_8 : decode cX2_copy 8 = .ok (.aload_n 1, 1) := dk_43 (dk_at dksX2_copy_0 8 rfl rfl)
theorem dX2_copy_9 : decode cX2_copy 9 = .ok (.getfield 12, 3) := dk_180 0 12 (dk_at dksX2_copy_0 9 rfl rfl)
theorem dX2_copy_12 : decode cX2_copy 12 = .ok (.aload_n 0, 1) := dk_42 (dk_at dksX2_copy_0 12 rfl rfl)
theorem dX2_copy_13 : decode cX2_copy 13 = .ok (.getfield 12, 3) := dk_180 0 12 (dk_at dksX2_copy_0 13 rfl rfl)
theorem dX2_copy_16 : decode cX2_copy 16 = .ok (.invokeinterface 37 2, 5) := by decide +kernel
theorem dX2_copy_21 : decode cX2_copy 21 = .ok (.pop, 1) := dk_87 (dk_at dksX2_copy_0 21 rfl rfl)
theorem dX2_copy_22 : decode cX2_copy 22 = .ok (.aload_n 0, 1) := dk_42 (dk_at dksX2_copy_0 22 rfl rfl)
theorem dX2_copy_23 : decode cX2_copy 23 = .ok (.getfield 18, 3) := dk_180 0 18 (dk_at dksX2_copy_1 0 rfl rfl)
theorem dX2_copy_26 : decode cX2_copy 26 = .ok (.iconst 0, 1) := dk_3 (dk_at dksX2_copy_1 3 rfl rfl)
theorem dX2_copy_27 : decode cX2_copy 27 = .ok (.aload_n 1, 1) := dk_43 (dk_at dksX2_copy_1 4 rfl rfl)
theorem dX2_copy_28 : decode cX2_copy 28 = .ok (.getfield 18, 3) := dk_180 0 18 (dk_at dksX2_copy_1 5 rfl rfl)
theorem dX2_copy_31 : decode cX2_copy 31 = .ok (.iconst 0, 1) := dk_3 (dk_at dksX2_copy_1 8 rfl rfl)
theorem dX2_copy_32 : decode cX2_copy 32 = .ok (.bipush 10, 2) := dk_16 10 (dk_at dksX2_copy_1 9 rfl rfl)
theorem dX2_copy_34 : decode cX2_copy 34 = .ok (.invokestatic 43, 3) := dk_184 0 43 (dk_at dksX2_copy_1 11 rfl rfl)
theorem dX2_copy_37 : decode cX2_copy 37 = .ok (.aload_n 1, 1) := dk_43 (dk_at dksX2_copy_1 14 rfl rfl)
theorem dX2_copy_38 : decode cX2_copy 38 = .ok (.aload_n 0, 1) := dk_42 (dk_at dksX2_copy_1 15 rfl rfl)
theorem dX2_copy_39 : decode cX2_copy 39 = .ok (.getfield 22, 3) := dk_180 0 22 (dk_at dksX2_copy_1 16 rfl rfl)
theorem dX2_copy_42 : decode cX2_copy 42 = .ok (.putfield 22, 3) := dk_181 0 22 (dk_at dksX2_copy_1 19 rfl rfl)
theorem dX2_copy_45 : decode cX2_copy 45 = .ok (.aload_n 1, 1) := dk_43 (dk_at dksX2_copy_1 22 rfl rfl)
theorem dX2_copy_46 : decode cX2_copy 46 = .ok (.aload_n 0, 1) := dk_42 (dk_at dksX2_copy_1 23 rfl rfl)
theorem dX2_copy_47 : decode cX2_copy 47 = .ok (.getfield 49, 3) := dk_180 0 49 (dk_at dksX2_copy_2 0 rfl rfl)
theorem dX2_copy_50 : decode cX2_copy 50 = .ok (.putfield 49, 3) := dk_181 0 49 (dk_at dksX2_copy_2 3 rfl rfl)
theorem dX2_copy_53 : decode cX2_copy 53 = .ok (.aload_n 1, 1) := dk_43 (dk_at dksX2_copy_2 6 rfl rfl)
theorem dX2_copy_54 : decode cX2_copy 54 = .ok (.getfield 29, 3) := dk_180 0 29 (dk_at dksX2_copy_2 7 rfl rfl)
theorem dX2_copy_57 : decode cX2_copy 57 = .ok (.aload_n 0, 1) := dk_42 (dk_at dksX2_copy_2 10 rfl rfl)
theorem dX2_copy_58 : decode cX2_copy 58 = .ok (.getfield 29, 3) := dk_180 0 29 (dk_at dksX2_copy_2 11 rfl rfl)
theorem dX2_copy_61 : decode cX2_copy 61 = .ok (.invokevirtual 52, 3) := dk_182 0 52 (dk_at dksX2_copy_2 14 rfl rfl)
theorem dX2_copy_64 : decode cX2_copy 64 = .ok (.pop, 1) := dk_87 (dk_at dksX2_copy_2 17 rfl rfl)
theorem dX2_copy_65 : decode cX2_copy 65 = .ok (.aload_n 1, 1) := dk_43 (dk_at dksX2_copy_2 18 rfl rfl)
theorem dX2_copy_66 : decode cX2_copy 66 = .ok (.getfield 33, 3) := dk_180 0 33 (dk_at dksX2_copy_2 19 rfl rfl)
theorem dX2_copy_69 : decode cX2_copy 69 = .ok (.aload_n 0, 1) := dk_42 (dk_at dksX2_copy_2 22 rfl rfl)
theorem dX2_copy_70 : decode cX2_copy 70 = .ok (.getfield 33, 3) := dk_180 0 33 (dk_at dksX2_copy_3 0 rfl rfl)
theorem dX2_copy_73 : decode cX2_copy 73 = .ok (.invokevirtual 52, 3) := dk_182 0 52 (dk_at dksX2_copy_3 3 rfl rfl)
theorem dX2_copy_76 : decode cX2_copy 76 = .ok (.pop, 1) := dk_87 (dk_at dksX2_copy_3 6 rfl rfl)
theorem dX2_copy_77 : decode cX2_copy 77 = .ok (.aload_n 1, 1) := dk_43 (dk_at dksX2_copy_3 7 rfl rfl)
theorem dX2_copy_78 : decode cX2_copy 78 = .ok (.areturn, 1) := dk_176 (dk_at dksX2_copy_3 8 rfl rfl)
abbrev cX2_opens : ByteArray := prog_12_method_15_code
def yX2_opens : MethodName := ⟨RX2, "opens", "(Ljava/util/BitSet;)I"⟩
def dkwX2_opens_2 : List UInt8 := [167, 255, 214, 28, 172]
abbrev dktX2_opens_2 : List UInt8 := dkwX2_opens_2 ++ []
def dkwX2_opens_1 : List UInt8 := [182, 0, 64, 180, 0, 131, 154, 0, 6, 167, 0, 12, 42, 29, 3, 182, 0, 134, 132, 2, 1, 132, 3, 1]
abbrev dktX2_opens_1 : List UInt8 := dkwX2_opens_1 ++ dktX2_opens_2
def dkwX2_opens_0 : List UInt8 := [3, 61, 3, 62, 29, 42, 182, 0, 63, 162, 0, 40, 43, 29, 182, 0, 126, 153, 0, 26, 42, 29]
abbrev dktX2_opens_0 : List UInt8 := dkwX2_opens_0 ++ dktX2_opens_1
theorem dksX2_opens_0 : cX2_opens.data.toList.drop 0 = dktX2_opens_0 := by decide +kernel
theorem dksX2_opens_1 : cX2_opens.data.toList.drop 22 = dktX2_opens_1 := dk_seg dksX2_opens_0 22 rfl rfl
theorem dksX2_opens_2 : cX2_opens.data.toList.drop 46 = dktX2_opens_2 := dk_seg dksX2_opens_1 24 rfl rfl
theorem dX2_opens_0 : decode cX2_opens 0 = .ok (.iconst 0, 1) := dk_3 (dk_at dksX2_opens_0 0 rfl rfl)
theorem dX2_opens_1 : decode cX2_opens 1 = .ok (.istore_n 2, 1) := dk_61 (dk_at dksX2_opens_0 1 rfl rfl)
theorem dX2_opens_2 : decode cX2_opens 2 = .ok (.iconst 0, 1) := dk_3 (dk_at dksX2_opens_0 2 rfl rfl)
theorem dX2_opens_3 : decode cX2_opens 3 = .ok (.istore_n 3, 1) := dk_62 (dk_at dksX2_opens_0 3 rfl rfl)
theorem dX2_opens_4 : decode cX2_opens 4 = .ok (.iload_n 3, 1) := dk_29 (dk_at dksX2_opens_0 4 rfl rfl)
theorem dX2_opens_5 : decode cX2_opens 5 = .ok (.aload_n 0, 1) := dk_42 (dk_at dksX2_opens_0 5 rfl rfl)
theorem dX2_opens_6 : decode cX2_opens 6 = .ok (.invokevirtual 63, 3) := dk_182 0 63 (dk_at dksX2_opens_0 6 rfl rfl)
theorem dX2_opens_9 : decode cX2_opens 9 = .ok (.if_icmp .ge 40, 3) := dk_162 0 40 (dk_at dksX2_opens_0 9 rfl rfl)
theorem dX2_opens_12 : decode cX2_opens 12 = .ok (.aload_n 1, 1) := dk_43 (dk_at dksX2_opens_0 12 rfl rfl)
theorem dX2_opens_13 : decode cX2_opens 13 = .ok (.iload_n 3, 1) := dk_29 (dk_at dksX2_opens_0 13 rfl rfl)
theorem dX2_opens_14 : decode cX2_opens 14 = .ok (.invokevirtual 126, 3) := dk_182 0 126 (dk_at dksX2_opens_0 14 rfl rfl)
theorem dX2_opens_17 : decode cX2_opens 17 = .ok (.ifCond .eq 26, 3) := dk_153 0 26 (dk_at dksX2_opens_0 17 rfl rfl)
theorem dX2_opens_20 : decode cX2_opens 20 = .ok (.aload_n 0, 1) := dk_42 (dk_at dksX2_opens_0 20 rfl rfl)
theorem dX2_opens_21 : decode cX2_opens 21 = .ok (.iload_n 3, 1) := dk_29 (dk_at dksX2_opens_0 21 rfl rfl)
theorem dX2_opens_22 : decode cX2_opens 22 = .ok (.invokevirtual 64, 3) := dk_182 0 64 (dk_at dksX2_opens_1 0 rfl rfl)
theorem dX2_opens_25 : decode cX2_opens 25 = .ok (.getfield 131, 3) := dk_180 0 131 (dk_at dksX2_opens_1 3 rfl rfl)
theorem dX2_opens_28 : decode cX2_opens 28 = .ok (.ifCond .ne 6, 3) := dk_154 0 6 (dk_at dksX2_opens_1 6 rfl rfl)
theorem dX2_opens_31 : decode cX2_opens 31 = .ok (.goto 12, 3) := dk_167 0 12 (dk_at dksX2_opens_1 9 rfl rfl)
theorem dX2_opens_34 : decode cX2_opens 34 = .ok (.aload_n 0, 1) := dk_42 (dk_at dksX2_opens_1 12 rfl rfl)
theorem dX2_opens_35 : decode cX2_opens 35 = .ok (.iload_n 3, 1) := dk_29 (dk_at dksX2_opens_1 13 rfl rfl)
theorem dX2_opens_36 : decode cX2_opens 36 = .ok (.iconst 0, 1) := dk_3 (dk_at dksX2_opens_1 14 rfl rfl)
theorem dX2_opens_37 : decode cX2_opens 37 = .ok (.invokevirtual 134, 3) := dk_182 0 134 (dk_at dksX2_opens_1 15 rfl rfl)
theorem dX2_opens_40 : decode cX2_opens 40 = .ok (.iinc 2 1, 3) := dk_132 2 1 (dk_at dksX2_opens_1 18 rfl rfl)
theorem dX2_opens_43 : decode cX2_opens 43 = .ok (.iinc 3 1, 3) := dk_132 3 1 (dk_at dksX2_opens_1 21 rfl rfl)
theorem dX2_opens_46 : decode cX2_opens 46 = .ok (.goto (-42), 3) := dk_167 255 214 (dk_at dksX2_opens_2 0 rfl rfl)
theorem dX2_opens_49 : decode cX2_opens 49 = .ok (.iload_n 2, 1) := dk_28 (dk_at dksX2_opens_2 3 rfl rfl)
theorem dX2_opens_50 : decode cX2_opens 50 = .ok (.ireturn, 1) := dk_172 (dk_at dksX2_opens_2 4 rfl rfl)
abbrev cX2_closes : ByteArray := prog_12_method_13_code
def yX2_closes : MethodName := ⟨RX2, "closes", "(IZ)V"⟩
def dkwX2_closes_0 : List UInt8 := [42, 27, 42, 27, 182, 0, 64, 28, 182, 0, 114, 182, 0, 118, 177]
abbrev dktX2_closes_0 : List UInt8 := dkwX2_closes_0 ++ []
theorem dksX2_closes_0 : cX2_closes.data.toList.drop 0 = dktX2_closes_0 := by decide +kernel
theorem dX2_closes_0 : decode cX2_closes 0 = .ok (.aload_n 0, 1) := dk_42 (dk_at dksX2_closes_0 0 rfl rfl)
theorem dX2_closes_1 : decode cX2_closes 1 = .ok (.iload_n 1, 1) := dk_27 (dk_at dksX2_closes_0 1 rfl rfl)
theorem dX2_closes_2 : decode cX2_closes 2 = .ok (.aload_n 0, 1) := dk_42 (dk_at dksX2_closes_0 2 rfl rfl)
theorem dX2_closes_3 : decode cX2_closes 3 = .ok (.iload_n 1, 1) := dk_27 (dk_at dksX2_closes_0 3 rfl rfl)
theorem dX2_closes_4 : decode cX2_closes 4 = .ok (.invokevirtual 64, 3) := dk_182 0 64 (dk_at dksX2_closes_0 4 rfl rfl)
theorem dX2_closes_7 : decode cX2_closes 7 = .ok (.iload_n 2, 1) := dk_28 (dk_at dksX2_closes_0 7 rfl rfl)
theorem dX2_closes_8 : decode cX2_closes 8 = .ok (.invokevirtual 114, 3) := dk_182 0 114 (dk_at dksX2_closes_0 8 rfl rfl)
theorem dX2_closes_11 : decode cX2_closes 11 = .ok (.invokevirtual 118, 3) := dk_182 0 118 (dk_at dksX2_closes_0 11 rfl rfl)
theorem dX2_closes_14 : decode cX2_closes 14 = .ok (.return_, 1) := dk_177 (dk_at dksX2_closes_0 14 rfl rfl)
abbrev cX2_puts : ByteArray := prog_12_method_12_code
def yX2_puts : MethodName := ⟨RX2, "puts", "(ILFoldLister$Line;)V"⟩
def dkwX2_puts_0 : List UInt8 := [42, 180, 0, 12, 27, 44, 185, 0, 107, 3, 0, 192, 0, 61, 78, 42, 182, 0, 111, 177]
abbrev dktX2_puts_0 : List UInt8 := dkwX2_puts_0 ++ []
theorem dksX2_puts_0 : cX2_puts.data.toList.drop 0 = dktX2_puts_0 := by decide +kernel
theorem dX2_puts_0 : decode cX2_puts 0 = .ok (.aload_n 0, 1) := dk_42 (dk_at dksX2_puts_0 0 rfl rfl)
theorem dX2_puts_1 : decode cX2_puts 1 = .ok (.getfield 12, 3) := dk_180 0 12 (dk_at dksX2_puts_0 1 rfl rfl)
theorem dX2_puts_4 : decode cX2_puts 4 = .ok (.iload_n 1, 1) := dk_27 (dk_at dksX2_puts_0 4 rfl rfl)
theorem dX2_puts_5 : decode cX2_puts 5 = .ok (.aload_n 2, 1) := dk_44 (dk_at dksX2_puts_0 5 rfl rfl)
theorem dX2_puts_6 : decode cX2_puts 6 = .ok (.invokeinterface 107 3, 5) := by decide +kernel
theorem dX2_puts_11 : decode cX2_puts 11 = .ok (.checkcast 61, 3) := dk_192 0 61 (dk_at dksX2_puts_0 11 rfl rfl)
theorem dX2_puts_14 : decode cX2_puts 14 = .ok (.astore_n 3, 1) := dk_78 (dk_at dksX2_puts_0 14 rfl rfl)
theorem dX2_puts_15 : decode cX2_puts 15 = .ok (.aload_n 0, 1) := dk_42 (dk_at dksX2_puts_0 15 rfl rfl)
theorem dX2_puts_16 : decode cX2_puts 16 = .ok (.invokevirtual 111, 3) := dk_182 0 111 (dk_at dksX2_puts_0 16 rfl rfl)
theorem dX2_puts_19 : decode cX2_puts 19 = .ok (.return_, 1) := dk_177 (dk_at dksX2_puts_0 19 rfl rfl)
abbrev cX2_changed : ByteArray := prog_12_method_8_code
def yX2_changed : MethodName := ⟨RX2, "changed", "()V"⟩
def dkwX2_changed_0 : List UInt8 := [42, 1, 181, 0, 74, 177]
abbrev dktX2_changed_0 : List UInt8 := dkwX2_changed_0 ++ []
theorem dksX2_changed_0 : cX2_changed.data.toList.drop 0 = dktX2_changed_0 := by decide +kernel
theorem dX2_changed_0 : decode cX2_changed 0 = .ok (.aload_n 0, 1) := dk_42 (dk_at dksX2_changed_0 0 rfl rfl)
theorem dX2_changed_1 : decode cX2_changed 1 = .ok (.aconst_null, 1) := dk_1 (dk_at dksX2_changed_0 1 rfl rfl)
theorem dX2_changed_2 : decode cX2_changed 2 = .ok (.putfield 74, 3) := dk_181 0 74 (dk_at dksX2_changed_0 2 rfl rfl)
theorem dX2_changed_5 : decode cX2_changed 5 = .ok (.return_, 1) := dk_177 (dk_at dksX2_changed_0 5 rfl rfl)
abbrev cX2_comes : ByteArray := prog_12_method_6_code
def yX2_comes : MethodName := ⟨RX2, "comes", "(Ljava/lang/String;)LFoldLister$Line;"⟩
def dkwX2_comes_1 : List UInt8 := [44, 176]
abbrev dktX2_comes_1 : List UInt8 := dkwX2_comes_1 ++ []
def dkwX2_comes_0 : List UInt8 := [187, 0, 61, 89, 42, 180, 0, 49, 43, 3, 183, 0, 71, 77, 42, 89, 180, 0, 49, 4, 96, 181, 0, 49]
abbrev dktX2_comes_0 : List UInt8 := dkwX2_comes_0 ++ dktX2_comes_1
theorem dksX2_comes_0 : cX2_comes.data.toList.drop 0 = dktX2_comes_0 := by decide +kernel
theorem dksX2_comes_1 : cX2_comes.data.toList.drop 24 = dktX2_comes_1 := dk_seg dksX2_comes_0 24 rfl rfl
theorem dX2_comes_0 : decode cX2_comes 0 = .ok (.new 61, 3) := dk_187 0 61 (dk_at dksX2_comes_0 0 rfl rfl)
theorem dX2_comes_3 : decode cX2_comes 3 = .ok (.dup, 1) := dk_89 (dk_at dksX2_comes_0 3 rfl rfl)
theorem dX2_comes_4 : decode cX2_comes 4 = .ok (.aload_n 0, 1) := dk_42 (dk_at dksX2_comes_0 4 rfl rfl)
theorem dX2_comes_5 : decode cX2_comes 5 = .ok (.getfield 49, 3) := dk_180 0 49 (dk_at dksX2_comes_0 5 rfl rfl)
theorem dX2_comes_8 : decode cX2_comes 8 = .ok (.aload_n 1, 1) := dk_43 (dk_at dksX2_comes_0 8 rfl rfl)
theorem dX2_comes_9 : decode cX2_comes 9 = .ok (.iconst 0, 1) := dk_3 (dk_at dksX2_comes_0 9 rfl rfl)
theorem dX2_comes_10 : decode cX2_comes 10 = .ok (.invokespecial 71, 3) := dk_183 0 71 (dk_at dksX2_comes_0 10 rfl rfl)
theorem dX2_comes_13 : decode cX2_comes 13 = .ok (.astore_n 2, 1) := dk_77 (dk_at dksX2_comes_0 13 rfl rfl)
theorem dX2_comes_14 : decode cX2_comes 14 = .ok (.aload_n 0, 1) := dk_42 (dk_at dksX2_comes_0 14 rfl rfl)
theorem dX2_comes_15 : decode cX2_comes 15 = .ok (.dup, 1) := dk_89 (dk_at dksX2_comes_0 15 rfl rfl)
theorem dX2_comes_16 : decode cX2_comes 16 = .ok (.getfield 49, 3) := dk_180 0 49 (dk_at dksX2_comes_0 16 rfl rfl)
theorem dX2_comes_19 : decode cX2_comes 19 = .ok (.iconst 1, 1) := dk_4 (dk_at dksX2_comes_0 19 rfl rfl)
theorem dX2_comes_20 : decode cX2_comes 20 = .ok (.iadd, 1) := dk_96 (dk_at dksX2_comes_0 20 rfl rfl)
theorem dX2_comes_21 : decode cX2_comes 21 = .ok (.putfield 49, 3) := dk_181 0 49 (dk_at dksX2_comes_0 21 rfl rfl)
theorem dX2_comes_24 : decode cX2_comes 24 = .ok (.aload_n 2, 1) := dk_44 (dk_at dksX2_comes_1 0 rfl rfl)
theorem dX2_comes_25 : decode cX2_comes 25 = .ok (.areturn, 1) := dk_176 (dk_at dksX2_comes_1 1 rfl rfl)
abbrev cX2_adds : ByteArray := prog_12_method_14_code
def yX2_adds : MethodName := ⟨RX2, "adds", "(ILFoldLister$Line;)V"⟩
def dkwX2_adds_1 : List UInt8 := [181, 0, 22, 42, 182, 0, 111, 177]
abbrev dktX2_adds_1 : List UInt8 := dkwX2_adds_1 ++ []
def dkwX2_adds_0 : List UInt8 := [42, 180, 0, 12, 27, 44, 185, 0, 122, 3, 0, 42, 180, 0, 22, 2, 160, 0, 11, 42, 44, 180, 0, 68]
abbrev dktX2_adds_0 : List UInt8 := dkwX2_adds_0 ++ dktX2_adds_1
theorem dksX2_adds_0 : cX2_adds.data.toList.drop 0 = dktX2_adds_0 := by decide +kernel
theorem dksX2_adds_1 : cX2_adds.data.toList.drop 24 = dktX2_adds_1 := dk_seg dksX2_adds_0 24 rfl rfl
theorem dX2_adds_0 : decode cX2_adds 0 = .ok (.aload_n 0, 1) := dk_42 (dk_at dksX2_adds_0 0 rfl rfl)
theorem dX2_adds_1 : decode cX2_adds 1 = .ok (.getfield 12, 3) := dk_180 0 12 (dk_at dksX2_adds_0 1 rfl rfl)
theorem dX2_adds_4 : decode cX2_adds 4 = .ok (.iload_n 1, 1) := dk_27 (dk_at dksX2_adds_0 4 rfl rfl)
theorem dX2_adds_5 : decode cX2_adds 5 = .ok (.aload_n 2, 1) := dk_44 (dk_at dksX2_adds_0 5 rfl rfl)
theorem dX2_adds_6 : decode cX2_adds 6 = .ok (.invokeinterface 122 3, 5) := by decide +kernel
theorem dX2_adds_11 : decode cX2_adds 11 = .ok (.aload_n 0, 1) := dk_42 (dk_at dksX2_adds_0 11 rfl rfl)
theorem dX2_adds_12 : decode cX2_adds 12 = .ok (.getfield 22, 3) := dk_180 0 22 (dk_at dksX2_adds_0 12 rfl rfl)
theorem dX2_adds_15 : decode cX2_adds 15 = .ok (.iconst (-1), 1) := dk_2 (dk_at dksX2_adds_0 15 rfl rfl)
theorem dX2_adds_16 : decode cX2_adds 16 = .ok (.if_icmp .ne 11, 3) := dk_160 0 11 (dk_at dksX2_adds_0 16 rfl rfl)
theorem dX2_adds_19 : decode cX2_adds 19 = .ok (.aload_n 0, 1) := dk_42 (dk_at dksX2_adds_0 19 rfl rfl)
theorem dX2_adds_20 : decode cX2_adds 20 = .ok (.aload_n 2, 1) := dk_44 (dk_at dksX2_adds_0 20 rfl rfl)
theorem dX2_adds_21 : decode cX2_adds 21 = .ok (.getfield 68, 3) := dk_180 0 68 (dk_at dksX2_adds_0 21 rfl rfl)
theorem dX2_adds_24 : decode cX2_adds 24 = .ok (.putfield 22, 3) := dk_181 0 22 (dk_at dksX2_adds_1 0 rfl rfl)
theorem dX2_adds_27 : decode cX2_adds 27 = .ok (.aload_n 0, 1) := dk_42 (dk_at dksX2_adds_1 3 rfl rfl)
theorem dX2_adds_28 : decode cX2_adds 28 = .ok (.invokevirtual 111, 3) := dk_182 0 111 (dk_at dksX2_adds_1 4 rfl rfl)
theorem dX2_adds_31 : decode cX2_adds 31 = .ok (.return_, 1) := dk_177 (dk_at dksX2_adds_1 7 rfl rfl)
abbrev cX2_target : ByteArray := prog_12_method_11_code
def yX2_target : MethodName := ⟨RX2, "target", "(I)I"⟩
def dkwX2_target_0 : List UInt8 := [42, 42, 27, 182, 0, 64, 182, 0, 100, 182, 0, 103, 172]
abbrev dktX2_target_0 : List UInt8 := dkwX2_target_0 ++ []
theorem dksX2_target_0 : cX2_target.data.toList.drop 0 = dktX2_target_0 := by decide +kernel
theorem dX2_target_0 : decode cX2_target 0 = .ok (.aload_n 0, 1) := dk_42 (dk_at dksX2_target_0 0 rfl rfl)
theorem dX2_target_1 : decode cX2_target 1 = .ok (.aload_n 0, 1) := dk_42 (dk_at dksX2_target_0 1 rfl rfl)
theorem dX2_target_2 : decode cX2_target 2 = .ok (.iload_n 1, 1) := dk_27 (dk_at dksX2_target_0 2 rfl rfl)
theorem dX2_target_3 : decode cX2_target 3 = .ok (.invokevirtual 64, 3) := dk_182 0 64 (dk_at dksX2_target_0 3 rfl rfl)
theorem dX2_target_6 : decode cX2_target 6 = .ok (.invokevirtual 100, 3) := dk_182 0 100 (dk_at dksX2_target_0 6 rfl rfl)
theorem dX2_target_9 : decode cX2_target 9 = .ok (.invokevirtual 103, 3) := dk_182 0 103 (dk_at dksX2_target_0 9 rfl rfl)
theorem dX2_target_12 : decode cX2_target 12 = .ok (.ireturn, 1) := dk_172 (dk_at dksX2_target_0 12 rfl rfl)
abbrev cX2_labelled : ByteArray := prog_12_method_10_code
def yX2_labelled : MethodName := ⟨RX2, "labelled", "(Ljava/lang/String;)I"⟩
def dkwX2_labelled_1 : List UInt8 := [182, 0, 92, 43, 182, 0, 96, 153, 0, 5, 28, 172, 132, 2, 1, 167, 255, 228, 2, 172]
abbrev dktX2_labelled_1 : List UInt8 := dkwX2_labelled_1 ++ []
def dkwX2_labelled_0 : List UInt8 := [43, 182, 0, 86, 153, 0, 5, 2, 172, 3, 61, 28, 42, 182, 0, 63, 162, 0, 26, 42, 28, 182, 0, 64]
abbrev dktX2_labelled_0 : List UInt8 := dkwX2_labelled_0 ++ dktX2_labelled_1
theorem dksX2_labelled_0 : cX2_labelled.data.toList.drop 0 = dktX2_labelled_0 := by decide +kernel
theorem dksX2_labelled_1 : cX2_labelled.data.toList.drop 24 = dktX2_labelled_1 := dk_seg dksX2_labelled_0 24 rfl rfl
theorem dX2_labelled_0 : decode cX2_labelled 0 = .ok (.aload_n 1, 1) := dk_43 (dk_at dksX2_labelled_0 0 rfl rfl)
theorem dX2_labelled_1 : decode cX2_labelled 1 = .ok (.invokevirtual 86, 3) := dk_182 0 86 (dk_at dksX2_labelled_0 1 rfl rfl)
theorem dX2_labelled_4 : decode cX2_labelled 4 = .ok (.ifCond .eq 5, 3) := dk_153 0 5 (dk_at dksX2_labelled_0 4 rfl rfl)
theorem dX2_labelled_7 : decode cX2_labelled 7 = .ok (.iconst (-1), 1) := dk_2 (dk_at dksX2_labelled_0 7 rfl rfl)
theorem dX2_labelled_8 : decode cX2_labelled 8 = .ok (.ireturn, 1) := dk_172 (dk_at dksX2_labelled_0 8 rfl rfl)
theorem dX2_labelled_9 : decode cX2_labelled 9 = .ok (.iconst 0, 1) := dk_3 (dk_at dksX2_labelled_0 9 rfl rfl)
theorem dX2_labelled_10 : decode cX2_labelled 10 = .ok (.istore_n 2, 1) := dk_61 (dk_at dksX2_labelled_0 10 rfl rfl)
theorem dX2_labelled_11 : decode cX2_labelled 11 = .ok (.iload_n 2, 1) := dk_28 (dk_at dksX2_labelled_0 11 rfl rfl)
theorem dX2_labelled_12 : decode cX2_labelled 12 = .ok (.aload_n 0, 1) := dk_42 (dk_at dksX2_labelled_0 12 rfl rfl)
theorem dX2_labelled_13 : decode cX2_labelled 13 = .ok (.invokevirtual 63, 3) := dk_182 0 63 (dk_at dksX2_labelled_0 13 rfl rfl)
theorem dX2_labelled_16 : decode cX2_labelled 16 = .ok (.if_icmp .ge 26, 3) := dk_162 0 26 (dk_at dksX2_labelled_0 16 rfl rfl)
theorem dX2_labelled_19 : decode cX2_labelled 19 = .ok (.aload_n 0, 1) := dk_42 (dk_at dksX2_labelled_0 19 rfl rfl)
theorem dX2_labelled_20 : decode cX2_labelled 20 = .ok (.iload_n 2, 1) := dk_28 (dk_at dksX2_labelled_0 20 rfl rfl)
theorem dX2_labelled_21 : decode cX2_labelled 21 = .ok (.invokevirtual 64, 3) := dk_182 0 64 (dk_at dksX2_labelled_0 21 rfl rfl)
theorem dX2_labelled_24 : decode cX2_labelled 24 = .ok (.invokevirtual 92, 3) := dk_182 0 92 (dk_at dksX2_labelled_1 0 rfl rfl)
theorem dX2_labelled_27 : decode cX2_labelled 27 = .ok (.aload_n 1, 1) := dk_43 (dk_at dksX2_labelled_1 3 rfl rfl)
theorem dX2_labelled_28 : decode cX2_labelled 28 = .ok (.invokevirtual 96, 3) := dk_182 0 96 (dk_at dksX2_labelled_1 4 rfl rfl)
theorem dX2_labelled_31 : decode cX2_labelled 31 = .ok (.ifCond .eq 5, 3) := dk_153 0 5 (dk_at dksX2_labelled_1 7 rfl rfl)
theorem dX2_labelled_34 : decode cX2_labelled 34 = .ok (.iload_n 2, 1) := dk_28 (dk_at dksX2_labelled_1 10 rfl rfl)
theorem dX2_labelled_35 : decode cX2_labelled 35 = .ok (.ireturn, 1) := dk_172 (dk_at dksX2_labelled_1 11 rfl rfl)
theorem dX2_labelled_36 : decode cX2_labelled 36 = .ok (.iinc 2 1, 3) := dk_132 2 1 (dk_at dksX2_labelled_1 12 rfl rfl)
theorem dX2_labelled_39 : decode cX2_labelled 39 = .ok (.goto (-28), 3) := dk_167 255 228 (dk_at dksX2_labelled_1 15 rfl rfl)
theorem dX2_labelled_42 : decode cX2_labelled 42 = .ok (.iconst (-1), 1) := dk_2 (dk_at dksX2_labelled_1 18 rfl rfl)
theorem dX2_labelled_43 : decode cX2_labelled 43 = .ok (.ireturn, 1) := dk_172 (dk_at dksX2_labelled_1 19 rfl rfl)
abbrev cX2_removes : ByteArray := prog_12_method_17_code
def yX2_removes : MethodName := ⟨RX2, "removes", "(II)V"⟩
def dkwX2_removes_8 : List UInt8 := [167, 255, 152, 42, 182, 0, 111, 177]
abbrev dktX2_removes_8 : List UInt8 := dkwX2_removes_8 ++ []
def dkwX2_removes_7 : List UInt8 := [180, 0, 29, 25, 6, 180, 0, 68, 184, 0, 173, 42, 180, 0, 33, 25, 6, 180, 0, 68, 184, 0, 173]
abbrev dktX2_removes_7 : List UInt8 := dkwX2_removes_7 ++ dktX2_removes_8
def dkwX2_removes_6 : List UInt8 := [167, 255, 222, 42, 180, 0, 22, 25, 6, 180, 0, 68, 160, 0, 9, 42, 21, 4, 181, 0, 22, 42]
abbrev dktX2_removes_6 : List UInt8 := dkwX2_removes_6 ++ dktX2_removes_7
def dkwX2_removes_5 : List UInt8 := [21, 7, 46, 25, 6, 180, 0, 68, 160, 0, 12, 42, 180, 0, 18, 21, 7, 21, 4, 79, 132, 7, 1]
abbrev dktX2_removes_5 : List UInt8 := dkwX2_removes_5 ++ dktX2_removes_6
def dkwX2_removes_4 : List UInt8 := [185, 0, 169, 1, 0, 192, 0, 61, 58, 6, 3, 54, 7, 21, 7, 16, 10, 162, 0, 33, 42, 180, 0, 18]
abbrev dktX2_removes_4 : List UInt8 := dkwX2_removes_4 ++ dktX2_removes_5
def dkwX2_removes_3 : List UInt8 := [54, 4, 45, 185, 0, 160, 1, 0, 58, 5, 25, 5, 185, 0, 164, 1, 0, 153, 0, 100, 25, 5]
abbrev dktX2_removes_3 : List UInt8 := dkwX2_removes_3 ++ dktX2_removes_4
def dkwX2_removes_2 : List UInt8 := [154, 0, 7, 2, 167, 0, 20, 42, 27, 42, 182, 0, 63, 4, 100, 184, 0, 154, 182, 0, 64, 180, 0, 68]
abbrev dktX2_removes_2 : List UInt8 := dkwX2_removes_2 ++ dktX2_removes_3
def dkwX2_removes_1 : List UInt8 := [185, 0, 149, 2, 0, 192, 0, 61, 185, 0, 152, 2, 0, 87, 132, 4, 1, 167, 255, 227, 42, 182, 0, 63]
abbrev dktX2_removes_1 : List UInt8 := dkwX2_removes_1 ++ dktX2_removes_2
def dkwX2_removes_0 : List UInt8 := [187, 0, 9, 89, 183, 0, 11, 78, 27, 54, 4, 21, 4, 28, 163, 0, 29, 45, 42, 180, 0, 12, 27]
abbrev dktX2_removes_0 : List UInt8 := dkwX2_removes_0 ++ dktX2_removes_1
theorem dksX2_removes_0 : cX2_removes.data.toList.drop 0 = dktX2_removes_0 := by decide +kernel
theorem dksX2_removes_1 : cX2_removes.data.toList.drop 23 = dktX2_removes_1 := dk_seg dksX2_removes_0 23 rfl rfl
theorem dksX2_removes_2 : cX2_removes.data.toList.drop 47 = dktX2_removes_2 := dk_seg dksX2_removes_1 24 rfl rfl
theorem dksX2_removes_3 : cX2_removes.data.toList.drop 71 = dktX2_removes_3 := dk_seg dksX2_removes_2 24 rfl rfl
theorem dksX2_removes_4 : cX2_removes.data.toList.drop 93 = dktX2_removes_4 := dk_seg dksX2_removes_3 22 rfl rfl
theorem dksX2_removes_5 : cX2_removes.data.toList.drop 117 = dktX2_removes_5 := dk_seg dksX2_removes_4 24 rfl rfl
theorem dksX2_removes_6 : cX2_removes.data.toList.drop 140 = dktX2_removes_6 := dk_seg dksX2_removes_5 23 rfl rfl
theorem dksX2_removes_7 : cX2_removes.data.toList.drop 162 = dktX2_removes_7 := dk_seg dksX2_removes_6 22 rfl rfl
theorem dksX2_removes_8 : cX2_removes.data.toList.drop 185 = dktX2_removes_8 := dk_seg dksX2_removes_7 23 rfl rfl
theorem dX2_removes_0 : decode cX2_removes 0 = .ok (.new 9, 3) := dk_187 0 9 (dk_at dksX2_removes_0 0 rfl rfl)
theorem dX2_removes_3 : decode cX2_removes 3 = .ok (.dup, 1) := dk_89 (dk_at dksX2_removes_0 3 rfl rfl)
theorem dX2_removes_4 : decode cX2_removes 4 = .ok (.invokespecial 11, 3) := dk_183 0 11 (dk_at dksX2_removes_0 4 rfl rfl)
theorem dX2_removes_7 : decode cX2_removes 7 = .ok (.astore_n 3, 1) := dk_78 (dk_at dksX2_removes_0 7 rfl rfl)
theorem dX2_removes_8 : decode cX2_removes 8 = .ok (.iload_n 1, 1) := dk_27 (dk_at dksX2_removes_0 8 rfl rfl)
theorem dX2_removes_9 : decode cX2_removes 9 = .ok (.istore 4, 2) := dk_54 4 (dk_at dksX2_removes_0 9 rfl rfl)
theorem dX2_removes_11 : decode cX2_removes 11 = .ok (.iload 4, 2) := dk_21 4 (dk_at dksX2_removes_0 11 rfl rfl)
theorem dX2_removes_13 : decode cX2_removes 13 = .ok (.iload_n 2, 1) := dk_28 (dk_at dksX2_removes_0 13 rfl rfl)
theorem dX2_removes_14 : decode cX2_removes 14 = .ok (.if_icmp .gt 29, 3) := dk_163 0 29 (dk_at dksX2_removes_0 14 rfl rfl)
theorem dX2_removes_17 : decode cX2_removes 17 = .ok (.aload_n 3, 1) := dk_45 (dk_at dksX2_removes_0 17 rfl rfl)
theorem dX2_removes_18 : decode cX2_removes 18 = .ok (.aload_n 0, 1) := dk_42 (dk_at dksX2_removes_0 18 rfl rfl)
theorem dX2_removes_19 : decode cX2_removes 19 = .ok (.getfield 12, 3) := dk_180 0 12 (dk_at dksX2_removes_0 19 rfl rfl)
theorem dX2_removes_22 : decode cX2_removes 22 = .ok (.iload_n 1, 1) := dk_27 (dk_at dksX2_removes_0 22 rfl rfl)
theorem dX2_removes_23 : decode cX2_removes 23 = .ok (.invokeinterface 149 2, 5) := by decide +kernel
theorem dX2_removes_28 : decode cX2_removes 28 = .ok (.checkcast 61, 3) := dk_192 0 61 (dk_at dksX2_removes_1 5 rfl rfl)
theorem dX2_removes_31 : decode cX2_removes 31 = .ok (.invokeinterface 152 2, 5) := by decide +kernel
theorem dX2_removes_36 : decode cX2_removes 36 = .ok (.pop, 1) := dk_87 (dk_at dksX2_removes_1 13 rfl rfl)
theorem dX2_removes_37 : decode cX2_removes 37 = .ok (.iinc 4 1, 3) := dk_132 4 1 (dk_at dksX2_removes_1 14 rfl rfl)
theorem dX2_removes_40 : decode cX2_removes 40 = .ok (.goto (-29), 3) := dk_167 255 227 (dk_at dksX2_removes_1 17 rfl rfl)
theorem dX2_removes_43 : decode cX2_removes 43 = .ok (.aload_n 0, 1) := dk_42 (dk_at dksX2_removes_1 20 rfl rfl)
theorem dX2_removes_44 : decode cX2_removes 44 = .ok (.invokevirtual 63, 3) := dk_182 0 63 (dk_at dksX2_removes_1 21 rfl rfl)
theorem dX2_removes_47 : decode cX2_removes 47 = .ok (.ifCond .ne 7, 3) := dk_154 0 7 (dk_at dksX2_removes_2 0 rfl rfl)
theorem dX2_removes_50 : decode cX2_removes 50 = .ok (.iconst (-1), 1) := dk_2 (dk_at dksX2_removes_2 3 rfl rfl)
theorem dX2_removes_51 : decode cX2_removes 51 = .ok (.goto 20, 3) := dk_167 0 20 (dk_at dksX2_removes_2 4 rfl rfl)
theorem dX2_removes_54 : decode cX2_removes 54 = .ok (.aload_n 0, 1) := dk_42 (dk_at dksX2_removes_2 7 rfl rfl)
theorem dX2_removes_55 : decode cX2_removes 55 = .ok (.iload_n 1, 1) := dk_27 (dk_at dksX2_removes_2 8 rfl rfl)
theorem dX2_removes_56 : decode cX2_removes 56 = .ok (.aload_n 0, 1) := dk_42 (dk_at dksX2_removes_2 9 rfl rfl)
theorem dX2_removes_57 : decode cX2_removes 57 = .ok (.invokevirtual 63, 3) := dk_182 0 63 (dk_at dksX2_removes_2 10 rfl rfl)
theorem dX2_removes_60 : decode cX2_removes 60 = .ok (.iconst 1, 1) := dk_4 (dk_at dksX2_removes_2 13 rfl rfl)
theorem dX2_removes_61 : decode cX2_removes 61 = .ok (.isub, 1) := dk_100 (dk_at dksX2_removes_2 14 rfl rfl)
theorem dX2_removes_62 : decode cX2_removes 62 = .ok (.invokestatic 154, 3) := dk_184 0 154 (dk_at dksX2_removes_2 15 rfl rfl)
theorem dX2_removes_65 : decode cX2_removes 65 = .ok (.invokevirtual 64, 3) := dk_182 0 64 (dk_at dksX2_removes_2 18 rfl rfl)
theorem dX2_removes_68 : decode cX2_removes 68 = .ok (.getfield 68, 3) := dk_180 0 68 (dk_at dksX2_removes_2 21 rfl rfl)
theorem dX2_removes_71 : decode cX2_removes 71 = .ok (.istore 4, 2) := dk_54 4 (dk_at dksX2_removes_3 0 rfl rfl)
theorem dX2_removes_73 : decode cX2_removes 73 = .ok (.aload_n 3, 1) := dk_45 (dk_at dksX2_removes_3 2 rfl rfl)
theorem dX2_removes_74 : decode cX2_removes 74 = .ok (.invokeinterface 160 1, 5) := by decide +kernel
theorem dX2_removes_79 : decode cX2_removes 79 = .ok (.astore 5, 2) := dk_58 5 (dk_at dksX2_removes_3 8 rfl rfl)
theorem dX2_removes_81 : decode cX2_removes 81 = .ok (.aload 5, 2) := dk_25 5 (dk_at dksX2_removes_3 10 rfl rfl)
theorem dX2_removes_83 : decode cX2_removes 83 = .ok (.invokeinterface 164 1, 5) := by decide +kernel
theorem dX2_removes_88 : decode cX2_removes 88 = .ok (.ifCond .eq 100, 3) := dk_153 0 100 (dk_at dksX2_removes_3 17 rfl rfl)
theorem dX2_removes_91 : decode cX2_removes 91 = .ok (.aload 5, 2) := dk_25 5 (dk_at dksX2_removes_3 20 rfl rfl)
theorem dX2_removes_93 : decode cX2_removes 93 = .ok (.invokeinterface 169 1, 5) := by decide +kernel
theorem dX2_removes_98 : decode cX2_removes 98 = .ok (.checkcast 61, 3) := dk_192 0 61 (dk_at dksX2_removes_4 5 rfl rfl)
theorem dX2_removes_101 : decode cX2_removes 101 = .ok (.astore 6, 2) := dk_58 6 (dk_at dksX2_removes_4 8 rfl rfl)
theorem dX2_removes_103 : decode cX2_removes 103 = .ok (.iconst 0, 1) := dk_3 (dk_at dksX2_removes_4 10 rfl rfl)
theorem dX2_removes_104 : decode cX2_removes 104 = .ok (.istore 7, 2) := dk_54 7 (dk_at dksX2_removes_4 11 rfl rfl)
theorem dX2_removes_106 : decode cX2_removes 106 = .ok (.iload 7, 2) := dk_21 7 (dk_at dksX2_removes_4 13 rfl rfl)
theorem dX2_removes_108 : decode cX2_removes 108 = .ok (.bipush 10, 2) := dk_16 10 (dk_at dksX2_removes_4 15 rfl rfl)
theorem dX2_removes_110 : decode cX2_removes 110 = .ok (.if_icmp .ge 33, 3) := dk_162 0 33 (dk_at dksX2_removes_4 17 rfl rfl)
theorem dX2_removes_113 : decode cX2_removes 113 = .ok (.aload_n 0, 1) := dk_42 (dk_at dksX2_removes_4 20 rfl rfl)
theorem dX2_removes_114 : decode cX2_removes 114 = .ok (.getfield 18, 3) := dk_180 0 18 (dk_at dksX2_removes_4 21 rfl rfl)
theorem dX2_removes_117 : decode cX2_removes 117 = .ok (.iload 7, 2) := dk_21 7 (dk_at dksX2_removes_5 0 rfl rfl)
theorem dX2_removes_119 : decode cX2_removes 119 = .ok (.iaload, 1) := dk_46 (dk_at dksX2_removes_5 2 rfl rfl)
theorem dX2_removes_120 : decode cX2_removes 120 = .ok (.aload 6, 2) := dk_25 6 (dk_at dksX2_removes_5 3 rfl rfl)
theorem dX2_removes_122 : decode cX2_removes 122 = .ok (.getfield 68, 3) := dk_180 0 68 (dk_at dksX2_removes_5 5 rfl rfl)
theorem dX2_removes_125 : decode cX2_removes 125 = .ok (.if_icmp .ne 12, 3) := dk_160 0 12 (dk_at dksX2_removes_5 8 rfl rfl)
theorem dX2_removes_128 : decode cX2_removes 128 = .ok (.aload_n 0, 1) := dk_42 (dk_at dksX2_removes_5 11 rfl rfl)
theorem dX2_removes_129 : decode cX2_removes 129 = .ok (.getfield 18, 3) := dk_180 0 18 (dk_at dksX2_removes_5 12 rfl rfl)
theorem dX2_removes_132 : decode cX2_removes 132 = .ok (.iload 7, 2) := dk_21 7 (dk_at dksX2_removes_5 15 rfl rfl)
theorem dX2_removes_134 : decode cX2_removes 134 = .ok (.iload 4, 2) := dk_21 4 (dk_at dksX2_removes_5 17 rfl rfl)
theorem dX2_removes_136 : decode cX2_removes 136 = .ok (.iastore, 1) := dk_79 (dk_at dksX2_removes_5 19 rfl rfl)
theorem dX2_removes_137 : decode cX2_removes 137 = .ok (.iinc 7 1, 3) := dk_132 7 1 (dk_at dksX2_removes_5 20 rfl rfl)
theorem dX2_removes_140 : decode cX2_removes 140 = .ok (.goto (-34), 3) := dk_167 255 222 (dk_at dksX2_removes_6 0 rfl rfl)
theorem dX2_removes_143 : decode cX2_removes 143 = .ok (.aload_n 0, 1) := dk_42 (dk_at dksX2_removes_6 3 rfl rfl)
theorem dX2_removes_144 : decode cX2_removes 144 = .ok (.getfield 22, 3) := dk_180 0 22 (dk_at dksX2_removes_6 4 rfl rfl)
theorem dX2_removes_147 : decode cX2_removes 147 = .ok (.aload 6, 2) := dk_25 6 (dk_at dksX2_removes_6 7 rfl rfl)
theorem dX2_removes_149 : decode cX2_removes 149 = .ok (.getfield 68, 3) := dk_180 0 68 (dk_at dksX2_removes_6 9 rfl rfl)
theorem dX2_removes_152 : decode cX2_removes 152 = .ok (.if_icmp .ne 9, 3) := dk_160 0 9 (dk_at dksX2_removes_6 12 rfl rfl)
theorem dX2_removes_155 : decode cX2_removes 155 = .ok (.aload_n 0, 1) := dk_42 (dk_at dksX2_removes_6 15 rfl rfl)
theorem dX2_removes_156 : decode cX2_removes 156 = .ok (.iload 4, 2) := dk_21 4 (dk_at dksX2_removes_6 16 rfl rfl)
theorem dX2_removes_158 : decode cX2_removes 158 = .ok (.putfield 22, 3) := dk_181 0 22 (dk_at dksX2_removes_6 18 rfl rfl)
theorem dX2_removes_161 : decode cX2_removes 161 = .ok (.aload_n 0, 1) := dk_42 (dk_at dksX2_removes_6 21 rfl rfl)
theorem dX2_removes_162 : decode cX2_removes 162 = .ok (.getfield 29, 3) := dk_180 0 29 (dk_at dksX2_removes_7 0 rfl rfl)
theorem dX2_removes_165 : decode cX2_removes 165 = .ok (.aload 6, 2) := dk_25 6 (dk_at dksX2_removes_7 3 rfl rfl)
theorem dX2_removes_167 : decode cX2_removes 167 = .ok (.getfield 68, 3) := dk_180 0 68 (dk_at dksX2_removes_7 5 rfl rfl)
theorem dX2_removes_170 : decode cX2_removes 170 = .ok (.invokestatic 173, 3) := dk_184 0 173 (dk_at dksX2_removes_7 8 rfl rfl)
theorem dX2_removes_173 : decode cX2_removes 173 = .ok (.aload_n 0, 1) := dk_42 (dk_at dksX2_removes_7 11 rfl rfl)
theorem dX2_removes_174 : decode cX2_removes 174 = .ok (.getfield 33, 3) := dk_180 0 33 (dk_at dksX2_removes_7 12 rfl rfl)
theorem dX2_removes_177 : decode cX2_removes 177 = .ok (.aload 6, 2) := dk_25 6 (dk_at dksX2_removes_7 15 rfl rfl)
theorem dX2_removes_179 : decode cX2_removes 179 = .ok (.getfield 68, 3) := dk_180 0 68 (dk_at dksX2_removes_7 17 rfl rfl)
theorem dX2_removes_182 : decode cX2_removes 182 = .ok (.invokestatic 173, 3) := dk_184 0 173 (dk_at dksX2_removes_7 20 rfl rfl)
theorem dX2_removes_185 : decode cX2_removes 185 = .ok (.goto (-104), 3) := dk_167 255 152 (dk_at dksX2_removes_8 0 rfl rfl)
theorem dX2_removes_188 : decode cX2_removes 188 = .ok (.aload_n 0, 1) := dk_42 (dk_at dksX2_removes_8 3 rfl rfl)
theorem dX2_removes_189 : decode cX2_removes 189 = .ok (.invokevirtual 111, 3) := dk_182 0 111 (dk_at dksX2_removes_8 4 rfl rfl)
theorem dX2_removes_192 : decode cX2_removes 192 = .ok (.return_, 1) := dk_177 (dk_at dksX2_removes_8 7 rfl rfl)
abbrev cX2_forgets : ByteArray := prog_12_method_18_code
def yX2_forgets : MethodName := ⟨RX2, "forgets", "(Ljava/util/LinkedList;I)V"⟩
def dkwX2_forgets_1 : List UInt8 := [182, 0, 180, 27, 160, 255, 234, 44, 185, 0, 183, 1, 0, 167, 255, 225, 177]
abbrev dktX2_forgets_1 : List UInt8 := dkwX2_forgets_1 ++ []
def dkwX2_forgets_0 : List UInt8 := [42, 182, 0, 177, 77, 44, 185, 0, 164, 1, 0, 153, 0, 28, 44, 185, 0, 169, 1, 0, 192, 0, 178]
abbrev dktX2_forgets_0 : List UInt8 := dkwX2_forgets_0 ++ dktX2_forgets_1
theorem dksX2_forgets_0 : cX2_forgets.data.toList.drop 0 = dktX2_forgets_0 := by decide +kernel
theorem dksX2_forgets_1 : cX2_forgets.data.toList.drop 23 = dktX2_forgets_1 := dk_seg dksX2_forgets_0 23 rfl rfl
theorem dX2_forgets_0 : decode cX2_forgets 0 = .ok (.aload_n 0, 1) := dk_42 (dk_at dksX2_forgets_0 0 rfl rfl)
theorem dX2_forgets_1 : decode cX2_forgets 1 = .ok (.invokevirtual 177, 3) := dk_182 0 177 (dk_at dksX2_forgets_0 1 rfl rfl)
theorem dX2_forgets_4 : decode cX2_forgets 4 = .ok (.astore_n 2, 1) := dk_77 (dk_at dksX2_forgets_0 4 rfl rfl)
theorem dX2_forgets_5 : decode cX2_forgets 5 = .ok (.aload_n 2, 1) := dk_44 (dk_at dksX2_forgets_0 5 rfl rfl)
theorem dX2_forgets_6 : decode cX2_forgets 6 = .ok (.invokeinterface 164 1, 5) := by decide +kernel
theorem dX2_forgets_11 : decode cX2_forgets 11 = .ok (.ifCond .eq 28, 3) := dk_153 0 28 (dk_at dksX2_forgets_0 11 rfl rfl)
theorem dX2_forgets_14 : decode cX2_forgets 14 = .ok (.aload_n 2, 1) := dk_44 (dk_at dksX2_forgets_0 14 rfl rfl)
theorem dX2_forgets_15 : decode cX2_forgets 15 = .ok (.invokeinterface 169 1, 5) := by decide +kernel
theorem dX2_forgets_20 : decode cX2_forgets 20 = .ok (.checkcast 178, 3) := dk_192 0 178 (dk_at dksX2_forgets_0 20 rfl rfl)
theorem dX2_forgets_23 : decode cX2_forgets 23 = .ok (.invokevirtual 180, 3) := dk_182 0 180 (dk_at dksX2_forgets_1 0 rfl rfl)
theorem dX2_forgets_26 : decode cX2_forgets 26 = .ok (.iload_n 1, 1) := dk_27 (dk_at dksX2_forgets_1 3 rfl rfl)
theorem dX2_forgets_27 : decode cX2_forgets 27 = .ok (.if_icmp .ne (-22), 3) := dk_160 255 234 (dk_at dksX2_forgets_1 4 rfl rfl)
theorem dX2_forgets_30 : decode cX2_forgets 30 = .ok (.aload_n 2, 1) := dk_44 (dk_at dksX2_forgets_1 7 rfl rfl)
theorem dX2_forgets_31 : decode cX2_forgets 31 = .ok (.invokeinterface 183 1, 5) := by decide +kernel
theorem dX2_forgets_36 : decode cX2_forgets 36 = .ok (.goto (-31), 3) := dk_167 255 225 (dk_at dksX2_forgets_1 13 rfl rfl)
theorem dX2_forgets_39 : decode cX2_forgets 39 = .ok (.return_, 1) := dk_177 (dk_at dksX2_forgets_1 16 rfl rfl)
abbrev cX2_shows : ByteArray := prog_12_method_16_code
def yX2_shows : MethodName := ⟨RX2, "shows", "(I)I"⟩
def dkwX2_shows_0 : List UInt8 := [42, 42, 182, 0, 138, 27, 182, 0, 141, 182, 0, 145, 172]
abbrev dktX2_shows_0 : List UInt8 := dkwX2_shows_0 ++ []
theorem dksX2_shows_0 : cX2_shows.data.toList.drop 0 = dktX2_shows_0 := by decide +kernel
theorem dX2_shows_0 : decode cX2_shows 0 = .ok (.aload_n 0, 1) := dk_42 (dk_at dksX2_shows_0 0 rfl rfl)
theorem dX2_shows_1 : decode cX2_shows 1 = .ok (.aload_n 0, 1) := dk_42 (dk_at dksX2_shows_0 1 rfl rfl)
theorem dX2_shows_2 : decode cX2_shows 2 = .ok (.invokevirtual 138, 3) := dk_182 0 138 (dk_at dksX2_shows_0 2 rfl rfl)
theorem dX2_shows_5 : decode cX2_shows 5 = .ok (.iload_n 1, 1) := dk_27 (dk_at dksX2_shows_0 5 rfl rfl)
theorem dX2_shows_6 : decode cX2_shows 6 = .ok (.invokevirtual 141, 3) := dk_182 0 141 (dk_at dksX2_shows_0 6 rfl rfl)
theorem dX2_shows_9 : decode cX2_shows 9 = .ok (.invokevirtual 145, 3) := dk_182 0 145 (dk_at dksX2_shows_0 9 rfl rfl)
theorem dX2_shows_12 : decode cX2_shows 12 = .ok (.ireturn, 1) := dk_172 (dk_at dksX2_shows_0 12 rfl rfl)
abbrev cX2_leaves : ByteArray := prog_12_method_19_code
def yX2_leaves : MethodName := ⟨RX2, "leaves", "(Ljava/util/LinkedList;)V"⟩
def dkwX2_leaves_1 : List UInt8 := [192, 0, 178, 182, 0, 180, 61, 177]
abbrev dktX2_leaves_1 : List UInt8 := dkwX2_leaves_1 ++ []
def dkwX2_leaves_0 : List UInt8 := [43, 42, 180, 0, 22, 184, 0, 185, 182, 0, 189, 43, 182, 0, 193, 16, 10, 164, 0, 14, 43, 182, 0, 194]
abbrev dktX2_leaves_0 : List UInt8 := dkwX2_leaves_0 ++ dktX2_leaves_1
theorem dksX2_leaves_0 : cX2_leaves.data.toList.drop 0 = dktX2_leaves_0 := by decide +kernel
theorem dksX2_leaves_1 : cX2_leaves.data.toList.drop 24 = dktX2_leaves_1 := dk_seg dksX2_leaves_0 24 rfl rfl
theorem dX2_leaves_0 : decode cX2_leaves 0 = .ok (.aload_n 1, 1) := dk_43 (dk_at dksX2_leaves_0 0 rfl rfl)
theorem dX2_leaves_1 : decode cX2_leaves 1 = .ok (.aload_n 0, 1) := dk_42 (dk_at dksX2_leaves_0 1 rfl rfl)
theorem dX2_leaves_2 : decode cX2_leaves 2 = .ok (.getfield 22, 3) := dk_180 0 22 (dk_at dksX2_leaves_0 2 rfl rfl)
theorem dX2_leaves_5 : decode cX2_leaves 5 = .ok (.invokestatic 185, 3) := dk_184 0 185 (dk_at dksX2_leaves_0 5 rfl rfl)
theorem dX2_leaves_8 : decode cX2_leaves 8 = .ok (.invokevirtual 189, 3) := dk_182 0 189 (dk_at dksX2_leaves_0 8 rfl rfl)
theorem dX2_leaves_11 : decode cX2_leaves 11 = .ok (.aload_n 1, 1) := dk_43 (dk_at dksX2_leaves_0 11 rfl rfl)
theorem dX2_leaves_12 : decode cX2_leaves 12 = .ok (.invokevirtual 193, 3) := dk_182 0 193 (dk_at dksX2_leaves_0 12 rfl rfl)
theorem dX2_leaves_15 : decode cX2_leaves 15 = .ok (.bipush 10, 2) := dk_16 10 (dk_at dksX2_leaves_0 15 rfl rfl)
theorem dX2_leaves_17 : decode cX2_leaves 17 = .ok (.if_icmp .le 14, 3) := dk_164 0 14 (dk_at dksX2_leaves_0 17 rfl rfl)
theorem dX2_leaves_20 : decode cX2_leaves 20 = .ok (.aload_n 1, 1) := dk_43 (dk_at dksX2_leaves_0 20 rfl rfl)
theorem dX2_leaves_21 : decode cX2_leaves 21 = .ok (.invokevirtual 194, 3) := dk_182 0 194 (dk_at dksX2_leaves_0 21 rfl rfl)
theorem dX2_leaves_24 : decode cX2_leaves 24 = .ok (.checkcast 178, 3) := dk_192 0 178 (dk_at dksX2_leaves_1 0 rfl rfl)
theorem dX2_leaves_27 : decode cX2_leaves 27 = .ok (.invokevirtual 180, 3) := dk_182 0 180 (dk_at dksX2_leaves_1 3 rfl rfl)
theorem dX2_leaves_30 : decode cX2_leaves 30 = .ok (.istore_n 2, 1) := dk_61 (dk_at dksX2_leaves_1 6 rfl rfl)
theorem dX2_leaves_31 : decode cX2_leaves 31 = .ok (.return_, 1) := dk_177 (dk_at dksX2_leaves_1 7 rfl rfl)
abbrev cX2_goesTo : ByteArray := prog_12_method_20_code
def yX2_goesTo : MethodName := ⟨RX2, "goesTo", "(I)V"⟩
def dkwX2_goesTo_0 : List UInt8 := [42, 27, 181, 0, 22, 42, 42, 27, 182, 0, 197, 182, 0, 201, 61, 177]
abbrev dktX2_goesTo_0 : List UInt8 := dkwX2_goesTo_0 ++ []
theorem dksX2_goesTo_0 : cX2_goesTo.data.toList.drop 0 = dktX2_goesTo_0 := by decide +kernel
theorem dX2_goesTo_0 : decode cX2_goesTo 0 = .ok (.aload_n 0, 1) := dk_42 (dk_at dksX2_goesTo_0 0 rfl rfl)
theorem dX2_goesTo_1 : decode cX2_goesTo 1 = .ok (.iload_n 1, 1) := dk_27 (dk_at dksX2_goesTo_0 1 rfl rfl)
theorem dX2_goesTo_2 : decode cX2_goesTo 2 = .ok (.putfield 22, 3) := dk_181 0 22 (dk_at dksX2_goesTo_0 2 rfl rfl)
theorem dX2_goesTo_5 : decode cX2_goesTo 5 = .ok (.aload_n 0, 1) := dk_42 (dk_at dksX2_goesTo_0 5 rfl rfl)
theorem dX2_goesTo_6 : decode cX2_goesTo 6 = .ok (.aload_n 0, 1) := dk_42 (dk_at dksX2_goesTo_0 6 rfl rfl)
theorem dX2_goesTo_7 : decode cX2_goesTo 7 = .ok (.iload_n 1, 1) := dk_27 (dk_at dksX2_goesTo_0 7 rfl rfl)
theorem dX2_goesTo_8 : decode cX2_goesTo 8 = .ok (.invokevirtual 197, 3) := dk_182 0 197 (dk_at dksX2_goesTo_0 8 rfl rfl)
theorem dX2_goesTo_11 : decode cX2_goesTo 11 = .ok (.invokevirtual 201, 3) := dk_182 0 201 (dk_at dksX2_goesTo_0 11 rfl rfl)
theorem dX2_goesTo_14 : decode cX2_goesTo 14 = .ok (.istore_n 2, 1) := dk_61 (dk_at dksX2_goesTo_0 14 rfl rfl)
theorem dX2_goesTo_15 : decode cX2_goesTo 15 = .ok (.return_, 1) := dk_177 (dk_at dksX2_goesTo_0 15 rfl rfl)
abbrev cX2_goesAlong : ByteArray := prog_12_method_21_code
def yX2_goesAlong : MethodName := ⟨RX2, "goesAlong", "(Ljava/util/LinkedList;Ljava/util/LinkedList;)V"⟩
def dkwX2_goesAlong_0 : List UInt8 := [42, 44, 182, 0, 204, 42, 43, 182, 0, 208, 192, 0, 178, 182, 0, 180, 182, 0, 211, 177]
abbrev dktX2_goesAlong_0 : List UInt8 := dkwX2_goesAlong_0 ++ []
theorem dksX2_goesAlong_0 : cX2_goesAlong.data.toList.drop 0 = dktX2_goesAlong_0 := by decide +kernel
theorem dX2_goesAlong_0 : decode cX2_goesAlong 0 = .ok (.aload_n 0, 1) := dk_42 (dk_at dksX2_goesAlong_0 0 rfl rfl)
theorem dX2_goesAlong_1 : decode cX2_goesAlong 1 = .ok (.aload_n 2, 1) := dk_44 (dk_at dksX2_goesAlong_0 1 rfl rfl)
theorem dX2_goesAlong_2 : decode cX2_goesAlong 2 = .ok (.invokevirtual 204, 3) := dk_182 0 204 (dk_at dksX2_goesAlong_0 2 rfl rfl)
theorem dX2_goesAlong_5 : decode cX2_goesAlong 5 = .ok (.aload_n 0, 1) := dk_42 (dk_at dksX2_goesAlong_0 5 rfl rfl)
theorem dX2_goesAlong_6 : decode cX2_goesAlong 6 = .ok (.aload_n 1, 1) := dk_43 (dk_at dksX2_goesAlong_0 6 rfl rfl)
theorem dX2_goesAlong_7 : decode cX2_goesAlong 7 = .ok (.invokevirtual 208, 3) := dk_182 0 208 (dk_at dksX2_goesAlong_0 7 rfl rfl)
theorem dX2_goesAlong_10 : decode cX2_goesAlong 10 = .ok (.checkcast 178, 3) := dk_192 0 178 (dk_at dksX2_goesAlong_0 10 rfl rfl)
theorem dX2_goesAlong_13 : decode cX2_goesAlong 13 = .ok (.invokevirtual 180, 3) := dk_182 0 180 (dk_at dksX2_goesAlong_0 13 rfl rfl)
theorem dX2_goesAlong_16 : decode cX2_goesAlong 16 = .ok (.invokevirtual 211, 3) := dk_182 0 211 (dk_at dksX2_goesAlong_0 16 rfl rfl)
theorem dX2_goesAlong_19 : decode cX2_goesAlong 19 = .ok (.return_, 1) := dk_177 (dk_at dksX2_goesAlong_0 19 rfl rfl)
theorem q105 : (Jvm.Cond.initialized "FoldLister$Page") ∈ lw_all := lw_g (lw_at lw_m1 2 rfl) rfl
theorem q171 : (Jvm.Cond.instantiable "FoldLister$Page" (7 : Nat)) ∈ lw_all := lw_g (lw_at lw_m1 68 rfl) rfl
theorem q173 : (Jvm.Cond.instanceMethod ({ cls := "FoldLister$Page", name := "<init>", desc := "()V" } : Jvm.MethodName)) ∈ lw_all := lw_g (lw_at lw_m1 70 rfl) rfl
theorem q174 : (Jvm.Cond.code ({ cls := "FoldLister$Page", name := "<init>", desc := "()V" } : Jvm.MethodName) prog_12_method_1_code (2 : Nat) (Option.none : Option Jvm.ClassFile.FieldType)) ∈ lw_all := lw_g (lw_at lw_m1 71 rfl) rfl
theorem q175 : (Jvm.Cond.methodLink "FoldLister$Page" (3 : Nat) ({ cls := "java/lang/Object", name := "<init>", desc := "()V" } : Jvm.MethodName)) ∈ lw_all := lw_g (lw_at lw_m1 72 rfl) rfl
theorem q176 : (Jvm.Cond.classLink "FoldLister$Page" (9 : Nat) "java/util/ArrayList") ∈ lw_all := lw_g (lw_at lw_m1 73 rfl) rfl
theorem q178 : (Jvm.Cond.methodLink "FoldLister$Page" (11 : Nat) ({ cls := "java/util/ArrayList", name := "<init>", desc := "()V" } : Jvm.MethodName)) ∈ lw_all := lw_g (lw_at lw_m1 75 rfl) rfl
theorem q210 : (Jvm.Cond.classLink "FoldLister$Page" (26 : Nat) "java/util/LinkedList") ∈ lw_all := lw_g (lw_at lw_m1 107 rfl) rfl
theorem q212 : (Jvm.Cond.methodLink "FoldLister$Page" (28 : Nat) ({ cls := "java/util/LinkedList", name := "<init>", desc := "()V" } : Jvm.MethodName)) ∈ lw_all := lw_g (lw_at lw_m1 109 rfl) rfl
theorem q232 : (Jvm.Cond.fieldLink "FoldLister$Page" (12 : Nat) "FoldLister$Page" "lines" "Ljava/util/List;") ∈ lw_all := lw_g (lw_at lw_m1 129 rfl) rfl
theorem q237 : (Jvm.Cond.fieldLink "FoldLister$Page" (18 : Nat) "FoldLister$Page" "markers" "[I") ∈ lw_all := lw_g (lw_at lw_m1 134 rfl) rfl
theorem q239 : (Jvm.Cond.fieldLink "FoldLister$Page" (22 : Nat) "FoldLister$Page" "cursor" "I") ∈ lw_all := lw_g (lw_at lw_m1 136 rfl) rfl
theorem q241 : (Jvm.Cond.fieldLink "FoldLister$Page" (49 : Nat) "FoldLister$Page" "came" "I") ∈ lw_all := lw_g (lw_at lw_m1 138 rfl) rfl
theorem q243 : (Jvm.Cond.fieldLink "FoldLister$Page" (29 : Nat) "FoldLister$Page" "back" "Ljava/util/LinkedList;") ∈ lw_all := lw_g (lw_at lw_m1 140 rfl) rfl
theorem q245 : (Jvm.Cond.fieldLink "FoldLister$Page" (33 : Nat) "FoldLister$Page" "forward" "Ljava/util/LinkedList;") ∈ lw_all := lw_g (lw_at lw_m1 142 rfl) rfl
theorem q247 : (Jvm.Cond.fieldLink "FoldLister$Page" (74 : Nat) "FoldLister$Page" "layout" "LFoldLister$Page$Layout;") ∈ lw_all := lw_g (lw_at lw_m1 144 rfl) rfl
theorem q248 : (Jvm.Cond.laysFinal "FoldLister$Page" "FoldLister$Page" "lines" "Ljava/util/List;") ∈ lw_all := lw_g (lw_at lw_m1 145 rfl) rfl
theorem q249 : (Jvm.Cond.soleField "FoldLister$Page" "lines") ∈ lw_all := lw_g (lw_at lw_m1 146 rfl) rfl
theorem q250 : (Jvm.Cond.laysFinal "FoldLister$Page" "FoldLister$Page" "markers" "[I") ∈ lw_all := lw_g (lw_at lw_m1 147 rfl) rfl
theorem q251 : (Jvm.Cond.soleField "FoldLister$Page" "markers") ∈ lw_all := lw_g (lw_at lw_m1 148 rfl) rfl
theorem q252 : (Jvm.Cond.lays "FoldLister$Page" "FoldLister$Page" "cursor" "I") ∈ lw_all := lw_g (lw_at lw_m1 149 rfl) rfl
theorem q253 : (Jvm.Cond.soleField "FoldLister$Page" "cursor") ∈ lw_all := lw_g (lw_at lw_m1 150 rfl) rfl
theorem q254 : (Jvm.Cond.lays "FoldLister$Page" "FoldLister$Page" "came" "I") ∈ lw_all := lw_g (lw_at lw_m1 151 rfl) rfl
theorem q255 : (Jvm.Cond.soleField "FoldLister$Page" "came") ∈ lw_all := lw_g (lw_at lw_m1 152 rfl) rfl
theorem q256 : (Jvm.Cond.laysFinal "FoldLister$Page" "FoldLister$Page" "back" "Ljava/util/LinkedList;") ∈ lw_all := lw_g (lw_at lw_m1 153 rfl) rfl
theorem q257 : (Jvm.Cond.soleField "FoldLister$Page" "back") ∈ lw_all := lw_g (lw_at lw_m1 154 rfl) rfl
theorem q258 : (Jvm.Cond.laysFinal "FoldLister$Page" "FoldLister$Page" "forward" "Ljava/util/LinkedList;") ∈ lw_all := lw_g (lw_at lw_m1 155 rfl) rfl
theorem q259 : (Jvm.Cond.soleField "FoldLister$Page" "forward") ∈ lw_all := lw_g (lw_at lw_m1 156 rfl) rfl
theorem q260 : (Jvm.Cond.lays "FoldLister$Page" "FoldLister$Page" "layout" "LFoldLister$Page$Layout;") ∈ lw_all := lw_g (lw_at lw_m1 157 rfl) rfl
theorem q261 : (Jvm.Cond.soleField "FoldLister$Page" "layout") ∈ lw_all := lw_g (lw_at lw_m1 158 rfl) rfl
theorem q262 : (Jvm.Cond.superclass "FoldLister$Page" "java/lang/Object") ∈ lw_all := lw_g (lw_at lw_m1 159 rfl) rfl
theorem q367 : (Jvm.Cond.instanceMethod ({ cls := "FoldLister$Page", name := "indexOf", desc := "(I)I" } : Jvm.MethodName)) ∈ lw_all := lw_g (lw_at lw_m2 24 rfl) rfl
theorem q368 : (Jvm.Cond.selects "FoldLister$Page" ({ cls := "FoldLister$Page", name := "indexOf", desc := "(I)I" } : Jvm.MethodName) ({ cls := "FoldLister$Page", name := "indexOf", desc := "(I)I" } : Jvm.MethodName)) ∈ lw_all := lw_g (lw_at lw_m2 25 rfl) rfl
theorem q369 : (Jvm.Cond.code ({ cls := "FoldLister$Page", name := "indexOf", desc := "(I)I" } : Jvm.MethodName) prog_12_method_5_code (3 : Nat) (Option.some Jvm.ClassFile.FieldType.int)) ∈ lw_all := lw_g (lw_at lw_m2 26 rfl) rfl
theorem q370 : (Jvm.Cond.methodLink "FoldLister$Page" (63 : Nat) ({ cls := "FoldLister$Page", name := "size", desc := "()I" } : Jvm.MethodName)) ∈ lw_all := lw_g (lw_at lw_m2 27 rfl) rfl
theorem q371 : (Jvm.Cond.instanceMethod ({ cls := "FoldLister$Page", name := "size", desc := "()I" } : Jvm.MethodName)) ∈ lw_all := lw_g (lw_at lw_m2 28 rfl) rfl
theorem q372 : (Jvm.Cond.selects "FoldLister$Page" ({ cls := "FoldLister$Page", name := "size", desc := "()I" } : Jvm.MethodName) ({ cls := "FoldLister$Page", name := "size", desc := "()I" } : Jvm.MethodName)) ∈ lw_all := lw_g (lw_at lw_m2 29 rfl) rfl
theorem q373 : (Jvm.Cond.code ({ cls := "FoldLister$Page", name := "size", desc := "()I" } : Jvm.MethodName) prog_12_method_3_code (1 : Nat) (Option.some Jvm.ClassFile.FieldType.int)) ∈ lw_all := lw_g (lw_at lw_m2 30 rfl) rfl
theorem q374 : (Jvm.Cond.interfaceEntry "FoldLister$Page" (53 : Nat)) ∈ lw_tbl := lw_at lw_m2 31 rfl
theorem q375 : (Jvm.Cond.methodLink "FoldLister$Page" (53 : Nat) ({ cls := "java/util/List", name := "size", desc := "()I" } : Jvm.MethodName)) ∈ lw_all := lw_g (lw_at lw_m2 32 rfl) rfl
theorem q390 : (Jvm.Cond.methodLink "FoldLister$Page" (64 : Nat) ({ cls := "FoldLister$Page", name := "line", desc := "(I)LFoldLister$Line;" } : Jvm.MethodName)) ∈ lw_all := lw_g (lw_at lw_m2 47 rfl) rfl
theorem q391 : (Jvm.Cond.instanceMethod ({ cls := "FoldLister$Page", name := "line", desc := "(I)LFoldLister$Line;" } : Jvm.MethodName)) ∈ lw_all := lw_g (lw_at lw_m2 48 rfl) rfl
theorem q392 : (Jvm.Cond.selects "FoldLister$Page" ({ cls := "FoldLister$Page", name := "line", desc := "(I)LFoldLister$Line;" } : Jvm.MethodName) ({ cls := "FoldLister$Page", name := "line", desc := "(I)LFoldLister$Line;" } : Jvm.MethodName)) ∈ lw_all := lw_g (lw_at lw_m2 49 rfl) rfl
theorem q393 : (Jvm.Cond.code ({ cls := "FoldLister$Page", name := "line", desc := "(I)LFoldLister$Line;" } : Jvm.MethodName) prog_12_method_4_code (2 : Nat) (Option.some (Jvm.ClassFile.FieldType.object "FoldLister$Line"))) ∈ lw_all := lw_g (lw_at lw_m2 50 rfl) rfl
theorem q394 : (Jvm.Cond.interfaceEntry "FoldLister$Page" (57 : Nat)) ∈ lw_tbl := lw_at lw_m2 51 rfl
theorem q395 : (Jvm.Cond.methodLink "FoldLister$Page" (57 : Nat) ({ cls := "java/util/List", name := "get", desc := "(I)Ljava/lang/Object;" } : Jvm.MethodName)) ∈ lw_all := lw_g (lw_at lw_m2 52 rfl) rfl
theorem q735 : (Jvm.Cond.classLink "FoldLister$Page" (61 : Nat) "FoldLister$Line") ∈ lw_all := lw_g (lw_at lw_m3 152 rfl) rfl
theorem q742 : (Jvm.Cond.instanceMethod ({ cls := "FoldLister$Page", name := "layout", desc := "()LFoldLister$Page$Layout;" } : Jvm.MethodName)) ∈ lw_all := lw_g (lw_at lw_m3 159 rfl) rfl
theorem q743 : (Jvm.Cond.selects "FoldLister$Page" ({ cls := "FoldLister$Page", name := "layout", desc := "()LFoldLister$Page$Layout;" } : Jvm.MethodName) ({ cls := "FoldLister$Page", name := "layout", desc := "()LFoldLister$Page$Layout;" } : Jvm.MethodName)) ∈ lw_all := lw_g (lw_at lw_m3 160 rfl) rfl
theorem q744 : (Jvm.Cond.code ({ cls := "FoldLister$Page", name := "layout", desc := "()LFoldLister$Page$Layout;" } : Jvm.MethodName) prog_12_method_7_code (1 : Nat) (Option.some (Jvm.ClassFile.FieldType.object "FoldLister$Page$Layout"))) ∈ lw_all := lw_g (lw_at lw_m3 161 rfl) rfl
theorem q745 : (Jvm.Cond.classLink "FoldLister$Page" (78 : Nat) "FoldLister$Page$Layout") ∈ lw_all := lw_g (lw_at lw_m3 162 rfl) rfl
theorem q747 : (Jvm.Cond.methodLink "FoldLister$Page" (80 : Nat) ({ cls := "FoldLister$Page$Layout", name := "<init>", desc := "(LFoldLister$Page;)V" } : Jvm.MethodName)) ∈ lw_all := lw_g (lw_at lw_m3 164 rfl) rfl
theorem q757 : (Jvm.Cond.instanceMethod ({ cls := "FoldLister$Page", name := "iterator", desc := "()Ljava/util/Iterator;" } : Jvm.MethodName)) ∈ lw_all := lw_g (lw_at lw_m3 174 rfl) rfl
theorem q758 : (Jvm.Cond.selects "FoldLister$Page" ({ cls := "FoldLister$Page", name := "iterator", desc := "()Ljava/util/Iterator;" } : Jvm.MethodName) ({ cls := "FoldLister$Page", name := "iterator", desc := "()Ljava/util/Iterator;" } : Jvm.MethodName)) ∈ lw_all := lw_g (lw_at lw_m3 175 rfl) rfl
theorem q759 : (Jvm.Cond.code ({ cls := "FoldLister$Page", name := "iterator", desc := "()Ljava/util/Iterator;" } : Jvm.MethodName) prog_12_method_9_code (1 : Nat) (Option.some (Jvm.ClassFile.FieldType.object "java/util/Iterator"))) ∈ lw_all := lw_g (lw_at lw_m3 176 rfl) rfl
theorem q760 : (Jvm.Cond.classLink "FoldLister$Page" (83 : Nat) "FoldLister$Page$1") ∈ lw_all := lw_g (lw_at lw_m3 177 rfl) rfl
theorem q762 : (Jvm.Cond.methodLink "FoldLister$Page" (85 : Nat) ({ cls := "FoldLister$Page$1", name := "<init>", desc := "(LFoldLister$Page;)V" } : Jvm.MethodName)) ∈ lw_all := lw_g (lw_at lw_m3 179 rfl) rfl
theorem q998 : (Jvm.Cond.selects "FoldLister$Page" ({ cls := "java/lang/Object", name := "getClass", desc := "()Ljava/lang/Class;" } : Jvm.MethodName) ({ cls := "java/lang/Object", name := "getClass", desc := "()Ljava/lang/Class;" } : Jvm.MethodName)) ∈ lw_all := lw_g (lw_at lw_m4 175 rfl) rfl
theorem q1712 : (Jvm.Cond.instanceMethod ({ cls := "FoldLister$Page", name := "copy", desc := "()LFoldLister$Page;" } : Jvm.MethodName)) ∈ lw_all := lw_g (lw_at lw_m7 169 rfl) rfl
theorem q1713 : (Jvm.Cond.selects "FoldLister$Page" ({ cls := "FoldLister$Page", name := "copy", desc := "()LFoldLister$Page;" } : Jvm.MethodName) ({ cls := "FoldLister$Page", name := "copy", desc := "()LFoldLister$Page;" } : Jvm.MethodName)) ∈ lw_all := lw_g (lw_at lw_m7 170 rfl) rfl
theorem q1714 : (Jvm.Cond.code ({ cls := "FoldLister$Page", name := "copy", desc := "()LFoldLister$Page;" } : Jvm.MethodName) prog_12_method_2_code (2 : Nat) (Option.some (Jvm.ClassFile.FieldType.object "FoldLister$Page"))) ∈ lw_all := lw_g (lw_at lw_m7 171 rfl) rfl
theorem q1715 : (Jvm.Cond.classLink "FoldLister$Page" (13 : Nat) "FoldLister$Page") ∈ lw_all := lw_g (lw_at lw_m7 172 rfl) rfl
theorem q1716 : (Jvm.Cond.methodLink "FoldLister$Page" (36 : Nat) ({ cls := "FoldLister$Page", name := "<init>", desc := "()V" } : Jvm.MethodName)) ∈ lw_all := lw_g (lw_at lw_m7 173 rfl) rfl
theorem q1717 : (Jvm.Cond.interfaceEntry "FoldLister$Page" (37 : Nat)) ∈ lw_tbl := lw_at lw_m7 174 rfl
theorem q1718 : (Jvm.Cond.methodLink "FoldLister$Page" (37 : Nat) ({ cls := "java/util/List", name := "addAll", desc := "(Ljava/util/Collection;)Z" } : Jvm.MethodName)) ∈ lw_all := lw_g (lw_at lw_m7 175 rfl) rfl
theorem q1769 : (Jvm.Cond.methodLink "FoldLister$Page" (43 : Nat) ({ cls := "java/lang/System", name := "arraycopy", desc := "(Ljava/lang/Object;ILjava/lang/Object;II)V" } : Jvm.MethodName)) ∈ lw_all := lw_g (lw_at lw_m7 226 rfl) rfl
theorem q1770 : (Jvm.Cond.methodLink "FoldLister$Page" (52 : Nat) ({ cls := "java/util/LinkedList", name := "addAll", desc := "(Ljava/util/Collection;)Z" } : Jvm.MethodName)) ∈ lw_all := lw_g (lw_at lw_m7 227 rfl) rfl
theorem q1774 : (Jvm.Cond.instanceMethod ({ cls := "FoldLister$Page", name := "opens", desc := "(Ljava/util/BitSet;)I" } : Jvm.MethodName)) ∈ lw_all := lw_g (lw_at lw_m7 231 rfl) rfl
theorem q1775 : (Jvm.Cond.selects "FoldLister$Page" ({ cls := "FoldLister$Page", name := "opens", desc := "(Ljava/util/BitSet;)I" } : Jvm.MethodName) ({ cls := "FoldLister$Page", name := "opens", desc := "(Ljava/util/BitSet;)I" } : Jvm.MethodName)) ∈ lw_all := lw_g (lw_at lw_m7 232 rfl) rfl
theorem q1776 : (Jvm.Cond.code ({ cls := "FoldLister$Page", name := "opens", desc := "(Ljava/util/BitSet;)I" } : Jvm.MethodName) prog_12_method_15_code (4 : Nat) (Option.some Jvm.ClassFile.FieldType.int)) ∈ lw_all := lw_g (lw_at lw_m7 233 rfl) rfl
theorem q1777 : (Jvm.Cond.methodLink "FoldLister$Page" (126 : Nat) ({ cls := "java/util/BitSet", name := "get", desc := "(I)Z" } : Jvm.MethodName)) ∈ lw_all := lw_g (lw_at lw_m7 234 rfl) rfl
theorem q1778 : (Jvm.Cond.methodLink "FoldLister$Page" (134 : Nat) ({ cls := "FoldLister$Page", name := "closes", desc := "(IZ)V" } : Jvm.MethodName)) ∈ lw_all := lw_g (lw_at lw_m7 235 rfl) rfl
theorem q1779 : (Jvm.Cond.instanceMethod ({ cls := "FoldLister$Page", name := "closes", desc := "(IZ)V" } : Jvm.MethodName)) ∈ lw_all := lw_g (lw_at lw_m7 236 rfl) rfl
theorem q1780 : (Jvm.Cond.selects "FoldLister$Page" ({ cls := "FoldLister$Page", name := "closes", desc := "(IZ)V" } : Jvm.MethodName) ({ cls := "FoldLister$Page", name := "closes", desc := "(IZ)V" } : Jvm.MethodName)) ∈ lw_all := lw_g (lw_at lw_m7 237 rfl) rfl
theorem q1781 : (Jvm.Cond.code ({ cls := "FoldLister$Page", name := "closes", desc := "(IZ)V" } : Jvm.MethodName) prog_12_method_13_code (3 : Nat) (Option.none : Option Jvm.ClassFile.FieldType)) ∈ lw_all := lw_g (lw_at lw_m7 238 rfl) rfl
theorem q1782 : (Jvm.Cond.methodLink "FoldLister$Page" (114 : Nat) ({ cls := "FoldLister$Line", name := "closed", desc := "(Z)LFoldLister$Line;" } : Jvm.MethodName)) ∈ lw_all := lw_g (lw_at lw_m7 239 rfl) rfl
theorem q1793 : (Jvm.Cond.fieldLinkNest "FoldLister$Page" (68 : Nat) "FoldLister$Line" "key" "I" "FoldLister") ∈ lw_tbl := lw_at lw_m8 10 rfl
theorem q1804 : (Jvm.Cond.fieldLinkNest "FoldLister$Page" (131 : Nat) "FoldLister$Line" "closed" "Z" "FoldLister") ∈ lw_tbl := lw_at lw_m8 21 rfl
theorem q1817 : (Jvm.Cond.methodLink "FoldLister$Page" (118 : Nat) ({ cls := "FoldLister$Page", name := "puts", desc := "(ILFoldLister$Line;)V" } : Jvm.MethodName)) ∈ lw_all := lw_g (lw_at lw_m8 34 rfl) rfl
theorem q1818 : (Jvm.Cond.instanceMethod ({ cls := "FoldLister$Page", name := "puts", desc := "(ILFoldLister$Line;)V" } : Jvm.MethodName)) ∈ lw_all := lw_g (lw_at lw_m8 35 rfl) rfl
theorem q1819 : (Jvm.Cond.selects "FoldLister$Page" ({ cls := "FoldLister$Page", name := "puts", desc := "(ILFoldLister$Line;)V" } : Jvm.MethodName) ({ cls := "FoldLister$Page", name := "puts", desc := "(ILFoldLister$Line;)V" } : Jvm.MethodName)) ∈ lw_all := lw_g (lw_at lw_m8 36 rfl) rfl
theorem q1820 : (Jvm.Cond.code ({ cls := "FoldLister$Page", name := "puts", desc := "(ILFoldLister$Line;)V" } : Jvm.MethodName) prog_12_method_12_code (4 : Nat) (Option.none : Option Jvm.ClassFile.FieldType)) ∈ lw_all := lw_g (lw_at lw_m8 37 rfl) rfl
theorem q1821 : (Jvm.Cond.interfaceEntry "FoldLister$Page" (107 : Nat)) ∈ lw_tbl := lw_at lw_m8 38 rfl
theorem q1822 : (Jvm.Cond.methodLink "FoldLister$Page" (107 : Nat) ({ cls := "java/util/List", name := "set", desc := "(ILjava/lang/Object;)Ljava/lang/Object;" } : Jvm.MethodName)) ∈ lw_all := lw_g (lw_at lw_m8 39 rfl) rfl
theorem q1835 : (Jvm.Cond.methodLink "FoldLister$Page" (111 : Nat) ({ cls := "FoldLister$Page", name := "changed", desc := "()V" } : Jvm.MethodName)) ∈ lw_all := lw_g (lw_at lw_m8 52 rfl) rfl
theorem q1836 : (Jvm.Cond.instanceMethod ({ cls := "FoldLister$Page", name := "changed", desc := "()V" } : Jvm.MethodName)) ∈ lw_all := lw_g (lw_at lw_m8 53 rfl) rfl
theorem q1837 : (Jvm.Cond.selects "FoldLister$Page" ({ cls := "FoldLister$Page", name := "changed", desc := "()V" } : Jvm.MethodName) ({ cls := "FoldLister$Page", name := "changed", desc := "()V" } : Jvm.MethodName)) ∈ lw_all := lw_g (lw_at lw_m8 54 rfl) rfl
theorem q1838 : (Jvm.Cond.code ({ cls := "FoldLister$Page", name := "changed", desc := "()V" } : Jvm.MethodName) prog_12_method_8_code (1 : Nat) (Option.none : Option Jvm.ClassFile.FieldType)) ∈ lw_all := lw_g (lw_at lw_m8 55 rfl) rfl
theorem q1938 : (Jvm.Cond.instanceMethod ({ cls := "FoldLister$Page", name := "comes", desc := "(Ljava/lang/String;)LFoldLister$Line;" } : Jvm.MethodName)) ∈ lw_all := lw_g (lw_at lw_m8 155 rfl) rfl
theorem q1939 : (Jvm.Cond.selects "FoldLister$Page" ({ cls := "FoldLister$Page", name := "comes", desc := "(Ljava/lang/String;)LFoldLister$Line;" } : Jvm.MethodName) ({ cls := "FoldLister$Page", name := "comes", desc := "(Ljava/lang/String;)LFoldLister$Line;" } : Jvm.MethodName)) ∈ lw_all := lw_g (lw_at lw_m8 156 rfl) rfl
theorem q1940 : (Jvm.Cond.code ({ cls := "FoldLister$Page", name := "comes", desc := "(Ljava/lang/String;)LFoldLister$Line;" } : Jvm.MethodName) prog_12_method_6_code (3 : Nat) (Option.some (Jvm.ClassFile.FieldType.object "FoldLister$Line"))) ∈ lw_all := lw_g (lw_at lw_m8 157 rfl) rfl
theorem q1941 : (Jvm.Cond.methodLink "FoldLister$Page" (71 : Nat) ({ cls := "FoldLister$Line", name := "<init>", desc := "(ILjava/lang/String;Z)V" } : Jvm.MethodName)) ∈ lw_all := lw_g (lw_at lw_m8 158 rfl) rfl
theorem q1990 : (Jvm.Cond.instanceMethod ({ cls := "FoldLister$Page", name := "adds", desc := "(ILFoldLister$Line;)V" } : Jvm.MethodName)) ∈ lw_all := lw_g (lw_at lw_m8 207 rfl) rfl
theorem q1991 : (Jvm.Cond.selects "FoldLister$Page" ({ cls := "FoldLister$Page", name := "adds", desc := "(ILFoldLister$Line;)V" } : Jvm.MethodName) ({ cls := "FoldLister$Page", name := "adds", desc := "(ILFoldLister$Line;)V" } : Jvm.MethodName)) ∈ lw_all := lw_g (lw_at lw_m8 208 rfl) rfl
theorem q1992 : (Jvm.Cond.code ({ cls := "FoldLister$Page", name := "adds", desc := "(ILFoldLister$Line;)V" } : Jvm.MethodName) prog_12_method_14_code (3 : Nat) (Option.none : Option Jvm.ClassFile.FieldType)) ∈ lw_all := lw_g (lw_at lw_m8 209 rfl) rfl
theorem q1993 : (Jvm.Cond.interfaceEntry "FoldLister$Page" (122 : Nat)) ∈ lw_tbl := lw_at lw_m8 210 rfl
theorem q1994 : (Jvm.Cond.methodLink "FoldLister$Page" (122 : Nat) ({ cls := "java/util/List", name := "add", desc := "(ILjava/lang/Object;)V" } : Jvm.MethodName)) ∈ lw_all := lw_g (lw_at lw_m8 211 rfl) rfl
theorem q2102 : (Jvm.Cond.instanceMethod ({ cls := "FoldLister$Page", name := "target", desc := "(I)I" } : Jvm.MethodName)) ∈ lw_all := lw_g (lw_at lw_m9 79 rfl) rfl
theorem q2103 : (Jvm.Cond.selects "FoldLister$Page" ({ cls := "FoldLister$Page", name := "target", desc := "(I)I" } : Jvm.MethodName) ({ cls := "FoldLister$Page", name := "target", desc := "(I)I" } : Jvm.MethodName)) ∈ lw_all := lw_g (lw_at lw_m9 80 rfl) rfl
theorem q2104 : (Jvm.Cond.code ({ cls := "FoldLister$Page", name := "target", desc := "(I)I" } : Jvm.MethodName) prog_12_method_11_code (2 : Nat) (Option.some Jvm.ClassFile.FieldType.int)) ∈ lw_all := lw_g (lw_at lw_m9 81 rfl) rfl
theorem q2105 : (Jvm.Cond.methodLink "FoldLister$Page" (100 : Nat) ({ cls := "FoldLister$Line", name := "reference", desc := "()Ljava/lang/String;" } : Jvm.MethodName)) ∈ lw_all := lw_g (lw_at lw_m9 82 rfl) rfl
theorem q2106 : (Jvm.Cond.methodLink "FoldLister$Page" (103 : Nat) ({ cls := "FoldLister$Page", name := "labelled", desc := "(Ljava/lang/String;)I" } : Jvm.MethodName)) ∈ lw_all := lw_g (lw_at lw_m9 83 rfl) rfl
theorem q2107 : (Jvm.Cond.instanceMethod ({ cls := "FoldLister$Page", name := "labelled", desc := "(Ljava/lang/String;)I" } : Jvm.MethodName)) ∈ lw_all := lw_g (lw_at lw_m9 84 rfl) rfl
theorem q2108 : (Jvm.Cond.selects "FoldLister$Page" ({ cls := "FoldLister$Page", name := "labelled", desc := "(Ljava/lang/String;)I" } : Jvm.MethodName) ({ cls := "FoldLister$Page", name := "labelled", desc := "(Ljava/lang/String;)I" } : Jvm.MethodName)) ∈ lw_all := lw_g (lw_at lw_m9 85 rfl) rfl
theorem q2109 : (Jvm.Cond.code ({ cls := "FoldLister$Page", name := "labelled", desc := "(Ljava/lang/String;)I" } : Jvm.MethodName) prog_12_method_10_code (3 : Nat) (Option.some Jvm.ClassFile.FieldType.int)) ∈ lw_all := lw_g (lw_at lw_m9 86 rfl) rfl
theorem q2110 : (Jvm.Cond.methodLink "FoldLister$Page" (86 : Nat) ({ cls := "java/lang/String", name := "isEmpty", desc := "()Z" } : Jvm.MethodName)) ∈ lw_all := lw_g (lw_at lw_m9 87 rfl) rfl
theorem q2111 : (Jvm.Cond.methodLink "FoldLister$Page" (92 : Nat) ({ cls := "FoldLister$Line", name := "label", desc := "()Ljava/lang/String;" } : Jvm.MethodName)) ∈ lw_all := lw_g (lw_at lw_m9 88 rfl) rfl
theorem q2112 : (Jvm.Cond.methodLink "FoldLister$Page" (96 : Nat) ({ cls := "java/lang/String", name := "equals", desc := "(Ljava/lang/Object;)Z" } : Jvm.MethodName)) ∈ lw_all := lw_g (lw_at lw_m9 89 rfl) rfl
theorem q2632 : (Jvm.Cond.instanceMethod ({ cls := "FoldLister$Page", name := "removes", desc := "(II)V" } : Jvm.MethodName)) ∈ lw_all := lw_g (lw_at lw_m11 129 rfl) rfl
theorem q2633 : (Jvm.Cond.selects "FoldLister$Page" ({ cls := "FoldLister$Page", name := "removes", desc := "(II)V" } : Jvm.MethodName) ({ cls := "FoldLister$Page", name := "removes", desc := "(II)V" } : Jvm.MethodName)) ∈ lw_all := lw_g (lw_at lw_m11 130 rfl) rfl
theorem q2634 : (Jvm.Cond.code ({ cls := "FoldLister$Page", name := "removes", desc := "(II)V" } : Jvm.MethodName) prog_12_method_17_code (8 : Nat) (Option.none : Option Jvm.ClassFile.FieldType)) ∈ lw_all := lw_g (lw_at lw_m11 131 rfl) rfl
theorem q2635 : (Jvm.Cond.interfaceEntry "FoldLister$Page" (149 : Nat)) ∈ lw_tbl := lw_at lw_m11 132 rfl
theorem q2636 : (Jvm.Cond.methodLink "FoldLister$Page" (149 : Nat) ({ cls := "java/util/List", name := "remove", desc := "(I)Ljava/lang/Object;" } : Jvm.MethodName)) ∈ lw_all := lw_g (lw_at lw_m11 133 rfl) rfl
theorem q2657 : (Jvm.Cond.interfaceEntry "FoldLister$Page" (152 : Nat)) ∈ lw_tbl := lw_at lw_m11 154 rfl
theorem q2658 : (Jvm.Cond.methodLink "FoldLister$Page" (152 : Nat) ({ cls := "java/util/List", name := "add", desc := "(Ljava/lang/Object;)Z" } : Jvm.MethodName)) ∈ lw_all := lw_g (lw_at lw_m11 155 rfl) rfl
theorem q2659 : (Jvm.Cond.methodLink "FoldLister$Page" (154 : Nat) ({ cls := "java/lang/Math", name := "min", desc := "(II)I" } : Jvm.MethodName)) ∈ lw_all := lw_g (lw_at lw_m11 156 rfl) rfl
theorem q2660 : (Jvm.Cond.interfaceEntry "FoldLister$Page" (160 : Nat)) ∈ lw_tbl := lw_at lw_m11 157 rfl
theorem q2661 : (Jvm.Cond.methodLink "FoldLister$Page" (160 : Nat) ({ cls := "java/util/List", name := "iterator", desc := "()Ljava/util/Iterator;" } : Jvm.MethodName)) ∈ lw_all := lw_g (lw_at lw_m11 158 rfl) rfl
theorem q2662 : (Jvm.Cond.interfaceEntry "FoldLister$Page" (164 : Nat)) ∈ lw_tbl := lw_at lw_m11 159 rfl
theorem q2663 : (Jvm.Cond.methodLink "FoldLister$Page" (164 : Nat) ({ cls := "java/util/Iterator", name := "hasNext", desc := "()Z" } : Jvm.MethodName)) ∈ lw_all := lw_g (lw_at lw_m11 160 rfl) rfl
theorem q2664 : (Jvm.Cond.interfaceEntry "FoldLister$Page" (169 : Nat)) ∈ lw_tbl := lw_at lw_m11 161 rfl
theorem q2665 : (Jvm.Cond.methodLink "FoldLister$Page" (169 : Nat) ({ cls := "java/util/Iterator", name := "next", desc := "()Ljava/lang/Object;" } : Jvm.MethodName)) ∈ lw_all := lw_g (lw_at lw_m11 162 rfl) rfl
theorem q2666 : (Jvm.Cond.methodLink "FoldLister$Page" (173 : Nat) ({ cls := "FoldLister$Page", name := "forgets", desc := "(Ljava/util/LinkedList;I)V" } : Jvm.MethodName)) ∈ lw_all := lw_g (lw_at lw_m11 163 rfl) rfl
theorem q2667 : (Jvm.Cond.static ({ cls := "FoldLister$Page", name := "forgets", desc := "(Ljava/util/LinkedList;I)V" } : Jvm.MethodName)) ∈ lw_all := lw_g (lw_at lw_m11 164 rfl) rfl
theorem q2668 : (Jvm.Cond.code ({ cls := "FoldLister$Page", name := "forgets", desc := "(Ljava/util/LinkedList;I)V" } : Jvm.MethodName) prog_12_method_18_code (3 : Nat) (Option.none : Option Jvm.ClassFile.FieldType)) ∈ lw_all := lw_g (lw_at lw_m11 165 rfl) rfl
theorem q2669 : (Jvm.Cond.methodLink "FoldLister$Page" (177 : Nat) ({ cls := "java/util/LinkedList", name := "iterator", desc := "()Ljava/util/Iterator;" } : Jvm.MethodName)) ∈ lw_all := lw_g (lw_at lw_m11 166 rfl) rfl
theorem q2673 : (Jvm.Cond.classLink "FoldLister$Page" (178 : Nat) "java/lang/Integer") ∈ lw_all := lw_g (lw_at lw_m11 170 rfl) rfl
theorem q2674 : (Jvm.Cond.methodLink "FoldLister$Page" (180 : Nat) ({ cls := "java/lang/Integer", name := "intValue", desc := "()I" } : Jvm.MethodName)) ∈ lw_all := lw_g (lw_at lw_m11 171 rfl) rfl
theorem q2675 : (Jvm.Cond.interfaceEntry "FoldLister$Page" (183 : Nat)) ∈ lw_tbl := lw_at lw_m11 172 rfl
theorem q2676 : (Jvm.Cond.methodLink "FoldLister$Page" (183 : Nat) ({ cls := "java/util/Iterator", name := "remove", desc := "()V" } : Jvm.MethodName)) ∈ lw_all := lw_g (lw_at lw_m11 173 rfl) rfl
theorem q2831 : (Jvm.Cond.instanceMethod ({ cls := "FoldLister$Page", name := "shows", desc := "(I)I" } : Jvm.MethodName)) ∈ lw_all := lw_g (lw_at lw_m12 88 rfl) rfl
theorem q2832 : (Jvm.Cond.selects "FoldLister$Page" ({ cls := "FoldLister$Page", name := "shows", desc := "(I)I" } : Jvm.MethodName) ({ cls := "FoldLister$Page", name := "shows", desc := "(I)I" } : Jvm.MethodName)) ∈ lw_all := lw_g (lw_at lw_m12 89 rfl) rfl
theorem q2833 : (Jvm.Cond.code ({ cls := "FoldLister$Page", name := "shows", desc := "(I)I" } : Jvm.MethodName) prog_12_method_16_code (2 : Nat) (Option.some Jvm.ClassFile.FieldType.int)) ∈ lw_all := lw_g (lw_at lw_m12 90 rfl) rfl
theorem q2834 : (Jvm.Cond.methodLink "FoldLister$Page" (138 : Nat) ({ cls := "FoldLister$Page", name := "layout", desc := "()LFoldLister$Page$Layout;" } : Jvm.MethodName)) ∈ lw_all := lw_g (lw_at lw_m12 91 rfl) rfl
theorem q2835 : (Jvm.Cond.methodLink "FoldLister$Page" (141 : Nat) ({ cls := "FoldLister$Page$Layout", name := "hiders", desc := "(I)Ljava/util/BitSet;" } : Jvm.MethodName)) ∈ lw_all := lw_g (lw_at lw_m12 92 rfl) rfl
theorem q2836 : (Jvm.Cond.methodLink "FoldLister$Page" (145 : Nat) ({ cls := "FoldLister$Page", name := "opens", desc := "(Ljava/util/BitSet;)I" } : Jvm.MethodName)) ∈ lw_all := lw_g (lw_at lw_m12 93 rfl) rfl
theorem q2857 : (Jvm.Cond.instanceMethod ({ cls := "FoldLister$Page", name := "leaves", desc := "(Ljava/util/LinkedList;)V" } : Jvm.MethodName)) ∈ lw_all := lw_g (lw_at lw_m12 114 rfl) rfl
theorem q2858 : (Jvm.Cond.selects "FoldLister$Page" ({ cls := "FoldLister$Page", name := "leaves", desc := "(Ljava/util/LinkedList;)V" } : Jvm.MethodName) ({ cls := "FoldLister$Page", name := "leaves", desc := "(Ljava/util/LinkedList;)V" } : Jvm.MethodName)) ∈ lw_all := lw_g (lw_at lw_m12 115 rfl) rfl
theorem q2859 : (Jvm.Cond.code ({ cls := "FoldLister$Page", name := "leaves", desc := "(Ljava/util/LinkedList;)V" } : Jvm.MethodName) prog_12_method_19_code (3 : Nat) (Option.none : Option Jvm.ClassFile.FieldType)) ∈ lw_all := lw_g (lw_at lw_m12 116 rfl) rfl
theorem q2860 : (Jvm.Cond.methodLink "FoldLister$Page" (185 : Nat) ({ cls := "java/lang/Integer", name := "valueOf", desc := "(I)Ljava/lang/Integer;" } : Jvm.MethodName)) ∈ lw_all := lw_g (lw_at lw_m12 117 rfl) rfl
theorem q2861 : (Jvm.Cond.methodLink "FoldLister$Page" (189 : Nat) ({ cls := "java/util/LinkedList", name := "addLast", desc := "(Ljava/lang/Object;)V" } : Jvm.MethodName)) ∈ lw_all := lw_g (lw_at lw_m12 118 rfl) rfl
theorem q2865 : (Jvm.Cond.methodLink "FoldLister$Page" (193 : Nat) ({ cls := "java/util/LinkedList", name := "size", desc := "()I" } : Jvm.MethodName)) ∈ lw_all := lw_g (lw_at lw_m12 122 rfl) rfl
theorem q2866 : (Jvm.Cond.methodLink "FoldLister$Page" (194 : Nat) ({ cls := "java/util/LinkedList", name := "removeFirst", desc := "()Ljava/lang/Object;" } : Jvm.MethodName)) ∈ lw_all := lw_g (lw_at lw_m12 123 rfl) rfl
theorem q2879 : (Jvm.Cond.instanceMethod ({ cls := "FoldLister$Page", name := "goesTo", desc := "(I)V" } : Jvm.MethodName)) ∈ lw_all := lw_g (lw_at lw_m12 136 rfl) rfl
theorem q2880 : (Jvm.Cond.selects "FoldLister$Page" ({ cls := "FoldLister$Page", name := "goesTo", desc := "(I)V" } : Jvm.MethodName) ({ cls := "FoldLister$Page", name := "goesTo", desc := "(I)V" } : Jvm.MethodName)) ∈ lw_all := lw_g (lw_at lw_m12 137 rfl) rfl
theorem q2881 : (Jvm.Cond.code ({ cls := "FoldLister$Page", name := "goesTo", desc := "(I)V" } : Jvm.MethodName) prog_12_method_20_code (3 : Nat) (Option.none : Option Jvm.ClassFile.FieldType)) ∈ lw_all := lw_g (lw_at lw_m12 138 rfl) rfl
theorem q2882 : (Jvm.Cond.methodLink "FoldLister$Page" (197 : Nat) ({ cls := "FoldLister$Page", name := "indexOf", desc := "(I)I" } : Jvm.MethodName)) ∈ lw_all := lw_g (lw_at lw_m12 139 rfl) rfl
theorem q2883 : (Jvm.Cond.methodLink "FoldLister$Page" (201 : Nat) ({ cls := "FoldLister$Page", name := "shows", desc := "(I)I" } : Jvm.MethodName)) ∈ lw_all := lw_g (lw_at lw_m12 140 rfl) rfl
theorem q2906 : (Jvm.Cond.instanceMethod ({ cls := "FoldLister$Page", name := "goesAlong", desc := "(Ljava/util/LinkedList;Ljava/util/LinkedList;)V" } : Jvm.MethodName)) ∈ lw_all := lw_g (lw_at lw_m12 163 rfl) rfl
theorem q2907 : (Jvm.Cond.selects "FoldLister$Page" ({ cls := "FoldLister$Page", name := "goesAlong", desc := "(Ljava/util/LinkedList;Ljava/util/LinkedList;)V" } : Jvm.MethodName) ({ cls := "FoldLister$Page", name := "goesAlong", desc := "(Ljava/util/LinkedList;Ljava/util/LinkedList;)V" } : Jvm.MethodName)) ∈ lw_all := lw_g (lw_at lw_m12 164 rfl) rfl
theorem q2908 : (Jvm.Cond.code ({ cls := "FoldLister$Page", name := "goesAlong", desc := "(Ljava/util/LinkedList;Ljava/util/LinkedList;)V" } : Jvm.MethodName) prog_12_method_21_code (3 : Nat) (Option.none : Option Jvm.ClassFile.FieldType)) ∈ lw_all := lw_g (lw_at lw_m12 165 rfl) rfl
theorem q2909 : (Jvm.Cond.methodLink "FoldLister$Page" (204 : Nat) ({ cls := "FoldLister$Page", name := "leaves", desc := "(Ljava/util/LinkedList;)V" } : Jvm.MethodName)) ∈ lw_all := lw_g (lw_at lw_m12 166 rfl) rfl
theorem q2910 : (Jvm.Cond.methodLink "FoldLister$Page" (208 : Nat) ({ cls := "java/util/LinkedList", name := "removeLast", desc := "()Ljava/lang/Object;" } : Jvm.MethodName)) ∈ lw_all := lw_g (lw_at lw_m12 167 rfl) rfl
theorem q2918 : (Jvm.Cond.methodLink "FoldLister$Page" (211 : Nat) ({ cls := "FoldLister$Page", name := "goesTo", desc := "(I)V" } : Jvm.MethodName)) ∈ lw_all := lw_g (lw_at lw_m12 175 rfl) rfl
theorem q3605 : (Jvm.Cond.castable "FoldLister$Page" "java/lang/Object") ∈ lw_tbl := lw_at lw_m15 142 rfl
theorem in_X2 : ∀ w ∈ wsX20, w ∈ lw_all := lw_in wsX20 [248, 250, 252, 254, 256, 258, 260] (by decide +kernel) (by decide +kernel)
/-! FoldLister$Parser -/
set_option maxRecDepth 100000
def RX4 : String := "FoldLister$Parser"
def TX4 : u_T := fun k => match k with
  | 0 => ("FoldLister$Parser", "length", "I", true)
  | 1 => ("FoldLister$Parser", "made", "LFoldLister$Page;", true)
  | 2 => ("FoldLister$Parser", "text", "Ljava/lang/StringBuilder;", true)
  | _ => ("FoldLister$Parser", "this$0", "LFoldLister;", true)
def tyX4 : Nat → FieldType := fun k => match k with
  | 0 => .int
  | 1 => .object "FoldLister$Page"
  | 2 => .object "java/lang/StringBuilder"
  | _ => .object "FoldLister"
abbrev wsX40 : List Cond := u_ws RX4 TX4 4
theorem nmX4 : ∀ a, a < 4 → ∀ b, b < 4 → a ≠ b → (TX4 a).2.1 ≠ (TX4 b).2.1 := by decide +kernel
theorem tyX4_ok : ∀ k, k < 4 → parseFieldDescriptor (TX4 k).2.2.1 = some (tyX4 k) := by decide +kernel
abbrev cX4_init : ByteArray := prog_16_method_1_code
def yX4_init : MethodName := ⟨RX4, "<init>", "(LFoldLister;I)V"⟩
def dkwX4_init_1 : List UInt8 := [89, 183, 0, 24, 181, 0, 25, 42, 28, 181, 0, 29, 177]
abbrev dktX4_init_1 : List UInt8 := dkwX4_init_1 ++ []
def dkwX4_init_0 : List UInt8 := [42, 43, 181, 0, 3, 42, 183, 0, 9, 42, 187, 0, 15, 89, 183, 0, 17, 181, 0, 18, 42, 187, 0, 22]
abbrev dktX4_init_0 : List UInt8 := dkwX4_init_0 ++ dktX4_init_1
theorem dksX4_init_0 : cX4_init.data.toList.drop 0 = dktX4_init_0 := by decide +kernel
theorem dksX4_init_1 : cX4_init.data.toList.drop 24 = dktX4_init_1 := dk_seg dksX4_init_0 24 rfl rfl
theorem dX4_init_0 : decode cX4_init 0 = .ok (.aload_n 0, 1) := dk_42 (dk_at dksX4_init_0 0 rfl rfl)
theorem dX4_init_1 : decode cX4_init 1 = .ok (.aload_n 1, 1) := dk_43 (dk_at dksX4_init_0 1 rfl rfl)
theorem dX4_init_2 : decode cX4_init 2 = .ok (.putfield 3, 3) := dk_181 0 3 (dk_at dksX4_init_0 2 rfl rfl)
theorem dX4_init_5 : decode cX4_init 5 = .ok (.aload_n 0, 1) := dk_42 (dk_at dksX4_init_0 5 rfl rfl)
theorem dX4_init_6 : decode cX4_init 6 = .ok (.invokespecial 9, 3) := dk_183 0 9 (dk_at dksX4_init_0 6 rfl rfl)
theorem dX4_init_9 : decode cX4_init 9 = .ok (.aload_n 0, 1) := dk_42 (dk_at dksX4_init_0 9 rfl rfl)
theorem dX4_init_10 : decode cX4_init 10 = .ok (.new 15, 3) := dk_187 0 15 (dk_at dksX4_init_0 10 rfl rfl)
theorem dX4_init_13 : decode cX4_init 13 = .ok (.dup, 1) := dk_89 (dk_at dksX4_init_0 13 rfl rfl)
theorem dX4_init_14 : decode cX4_init 14 = .ok (.invokespecial 17, 3) := dk_183 0 17 (dk_at dksX4_init_0 14 rfl rfl)
theorem dX4_init_17 : decode cX4_init 17 = .ok (.putfield 18, 3) := dk_181 0 18 (dk_at dksX4_init_0 17 rfl rfl)
theorem dX4_init_20 : decode cX4_init 20 = .ok (.aload_n 0, 1) := dk_42 (dk_at dksX4_init_0 20 rfl rfl)
theorem dX4_init_21 : decode cX4_init 21 = .ok (.new 22, 3) := dk_187 0 22 (dk_at dksX4_init_0 21 rfl rfl)
theorem dX4_init_24 : decode cX4_init 24 = .ok (.dup, 1) := dk_89 (dk_at dksX4_init_1 0 rfl rfl)
theorem dX4_init_25 : decode cX4_init 25 = .ok (.invokespecial 24, 3) := dk_183 0 24 (dk_at dksX4_init_1 1 rfl rfl)
theorem dX4_init_28 : decode cX4_init 28 = .ok (.putfield 25, 3) := dk_181 0 25 (dk_at dksX4_init_1 4 rfl rfl)
theorem dX4_init_31 : decode cX4_init 31 = .ok (.aload_n 0, 1) := dk_42 (dk_at dksX4_init_1 7 rfl rfl)
theorem dX4_init_32 : decode cX4_init 32 = .ok (.iload_n 2, 1) := dk_28 (dk_at dksX4_init_1 8 rfl rfl)
theorem dX4_init_33 : decode cX4_init 33 = .ok (.putfield 29, 3) := dk_181 0 29 (dk_at dksX4_init_1 9 rfl rfl)
theorem dX4_init_36 : decode cX4_init 36 = .ok (.return_, 1) := dk_177 (dk_at dksX4_init_1 12 rfl rfl)
abbrev cX4_parse : ByteArray := prog_16_method_4_code
def yX4_parse : MethodName := ⟨RX4, "parse", "()LFoldLister$Page;"⟩
def dkwX4_parse_5 : List UInt8 := [182, 0, 66, 42, 180, 0, 18, 176]
abbrev dktX4_parse_5 : List UInt8 := dkwX4_parse_5 ++ []
def dkwX4_parse_4 : List UInt8 := [180, 0, 25, 28, 146, 182, 0, 75, 87, 132, 1, 1, 167, 255, 154, 42, 180, 0, 29, 158, 0, 7, 42]
abbrev dktX4_parse_4 : List UInt8 := dkwX4_parse_4 ++ dktX4_parse_5
def dkwX4_parse_3 : List UInt8 := [180, 0, 25, 182, 0, 73, 16, 24, 162, 0, 7, 4, 167, 0, 4, 3, 5, 27, 182, 0, 62, 42]
abbrev dktX4_parse_3 : List UInt8 := dkwX4_parse_3 ++ dktX4_parse_4
def dkwX4_parse_2 : List UInt8 := [27, 182, 0, 62, 42, 182, 0, 66, 167, 0, 46, 42, 28, 184, 0, 69, 4, 27, 182, 0, 62, 42, 42]
abbrev dktX4_parse_2 : List UInt8 := dkwX4_parse_2 ++ dktX4_parse_3
def dkwX4_parse_1 : List UInt8 := [160, 0, 35, 42, 42, 180, 0, 18, 182, 0, 38, 4, 96, 16, 80, 162, 0, 7, 4, 167, 0, 4, 3, 6]
abbrev dktX4_parse_1 : List UInt8 := dkwX4_parse_1 ++ dktX4_parse_2
def dkwX4_parse_0 : List UInt8 := [3, 60, 27, 42, 180, 0, 29, 162, 0, 100, 42, 180, 0, 3, 180, 0, 58, 27, 51, 61, 28, 16, 124]
abbrev dktX4_parse_0 : List UInt8 := dkwX4_parse_0 ++ dktX4_parse_1
theorem dksX4_parse_0 : cX4_parse.data.toList.drop 0 = dktX4_parse_0 := by decide +kernel
theorem dksX4_parse_1 : cX4_parse.data.toList.drop 23 = dktX4_parse_1 := dk_seg dksX4_parse_0 23 rfl rfl
theorem dksX4_parse_2 : cX4_parse.data.toList.drop 47 = dktX4_parse_2 := dk_seg dksX4_parse_1 24 rfl rfl
theorem dksX4_parse_3 : cX4_parse.data.toList.drop 70 = dktX4_parse_3 := dk_seg dksX4_parse_2 23 rfl rfl
theorem dksX4_parse_4 : cX4_parse.data.toList.drop 92 = dktX4_parse_4 := dk_seg dksX4_parse_3 22 rfl rfl
theorem dksX4_parse_5 : cX4_parse.data.toList.drop 115 = dktX4_parse_5 := dk_seg dksX4_parse_4 23 rfl rfl
theorem dX4_parse_0 : decode cX4_parse 0 = .ok (.iconst 0, 1) := dk_3 (dk_at dksX4_parse_0 0 rfl rfl)
theorem dX4_parse_1 : decode cX4_parse 1 = .ok (.istore_n 1, 1) := dk_60 (dk_at dksX4_parse_0 1 rfl rfl)
theorem dX4_parse_2 : decode cX4_parse 2 = .ok (.iload_n 1, 1) := dk_27 (dk_at dksX4_parse_0 2 rfl rfl)
theorem dX4_parse_3 : decode cX4_parse 3 = .ok (.aload_n 0, 1) := dk_42 (dk_at dksX4_parse_0 3 rfl rfl)
theorem dX4_parse_4 : decode cX4_parse 4 = .ok (.getfield 29, 3) := dk_180 0 29 (dk_at dksX4_parse_0 4 rfl rfl)
theorem dX4_parse_7 : decode cX4_parse 7 = .ok (.if_icmp .ge 100, 3) := dk_162 0 100 (dk_at dksX4_parse_0 7 rfl rfl)
theorem dX4_parse_10 : decode cX4_parse 10 = .ok (.aload_n 0, 1) := dk_42 (dk_at dksX4_parse_0 10 rfl rfl)
theorem dX4_parse_11 : decode cX4_parse 11 = .ok (.getfield 3, 3) := dk_180 0 3 (dk_at dksX4_parse_0 11 rfl rfl)
theorem dX4_parse_14 : decode cX4_parse 14 = .ok (.getfield 58, 3) := dk_180 0 58 (dk_at dksX4_parse_0 14 rfl rfl)
theorem dX4_parse_17 : decode cX4_parse 17 = .ok (.iload_n 1, 1) := dk_27 (dk_at dksX4_parse_0 17 rfl rfl)
theorem dX4_parse_18 : decode cX4_parse 18 = .ok (.baload, 1) := dk_51 (dk_at dksX4_parse_0 18 rfl rfl)
theorem dX4_parse_19 : decode cX4_parse 19 = .ok (.istore_n 2, 1) := dk_61 (dk_at dksX4_parse_0 19 rfl rfl)
theorem dX4_parse_20 : decode cX4_parse 20 = .ok (.iload_n 2, 1) := dk_28 (dk_at dksX4_parse_0 20 rfl rfl)
theorem dX4_parse_21 : decode cX4_parse 21 = .ok (.bipush 124, 2) := dk_16 124 (dk_at dksX4_parse_0 21 rfl rfl)
theorem dX4_parse_23 : decode cX4_parse 23 = .ok (.if_icmp .ne 35, 3) := dk_160 0 35 (dk_at dksX4_parse_1 0 rfl rfl)
theorem dX4_parse_26 : decode cX4_parse 26 = .ok (.aload_n 0, 1) := dk_42 (dk_at dksX4_parse_1 3 rfl rfl)
theorem dX4_parse_27 : decode cX4_parse 27 = .ok (.aload_n 0, 1) := dk_42 (dk_at dksX4_parse_1 4 rfl rfl)
theorem dX4_parse_28 : decode cX4_parse 28 = .ok (.getfield 18, 3) := dk_180 0 18 (dk_at dksX4_parse_1 5 rfl rfl)
theorem dX4_parse_31 : decode cX4_parse 31 = .ok (.invokevirtual 38, 3) := dk_182 0 38 (dk_at dksX4_parse_1 8 rfl rfl)
theorem dX4_parse_34 : decode cX4_parse 34 = .ok (.iconst 1, 1) := dk_4 (dk_at dksX4_parse_1 11 rfl rfl)
theorem dX4_parse_35 : decode cX4_parse 35 = .ok (.iadd, 1) := dk_96 (dk_at dksX4_parse_1 12 rfl rfl)
theorem dX4_parse_36 : decode cX4_parse 36 = .ok (.bipush 80, 2) := dk_16 80 (dk_at dksX4_parse_1 13 rfl rfl)
theorem dX4_parse_38 : decode cX4_parse 38 = .ok (.if_icmp .ge 7, 3) := dk_162 0 7 (dk_at dksX4_parse_1 15 rfl rfl)
theorem dX4_parse_41 : decode cX4_parse 41 = .ok (.iconst 1, 1) := dk_4 (dk_at dksX4_parse_1 18 rfl rfl)
theorem dX4_parse_42 : decode cX4_parse 42 = .ok (.goto 4, 3) := dk_167 0 4 (dk_at dksX4_parse_1 19 rfl rfl)
theorem dX4_parse_45 : decode cX4_parse 45 = .ok (.iconst 0, 1) := dk_3 (dk_at dksX4_parse_1 22 rfl rfl)
theorem dX4_parse_46 : decode cX4_parse 46 = .ok (.iconst 3, 1) := dk_6 (dk_at dksX4_parse_1 23 rfl rfl)
theorem dX4_parse_47 : decode cX4_parse 47 = .ok (.iload_n 1, 1) := dk_27 (dk_at dksX4_parse_2 0 rfl rfl)
theorem dX4_parse_48 : decode cX4_parse 48 = .ok (.invokevirtual 62, 3) := dk_182 0 62 (dk_at dksX4_parse_2 1 rfl rfl)
theorem dX4_parse_51 : decode cX4_parse 51 = .ok (.aload_n 0, 1) := dk_42 (dk_at dksX4_parse_2 4 rfl rfl)
theorem dX4_parse_52 : decode cX4_parse 52 = .ok (.invokevirtual 66, 3) := dk_182 0 66 (dk_at dksX4_parse_2 5 rfl rfl)
theorem dX4_parse_55 : decode cX4_parse 55 = .ok (.goto 46, 3) := dk_167 0 46 (dk_at dksX4_parse_2 8 rfl rfl)
theorem dX4_parse_58 : decode cX4_parse 58 = .ok (.aload_n 0, 1) := dk_42 (dk_at dksX4_parse_2 11 rfl rfl)
theorem dX4_parse_59 : decode cX4_parse 59 = .ok (.iload_n 2, 1) := dk_28 (dk_at dksX4_parse_2 12 rfl rfl)
theorem dX4_parse_60 : decode cX4_parse 60 = .ok (.invokestatic 69, 3) := dk_184 0 69 (dk_at dksX4_parse_2 13 rfl rfl)
theorem dX4_parse_63 : decode cX4_parse 63 = .ok (.iconst 1, 1) := dk_4 (dk_at dksX4_parse_2 16 rfl rfl)
theorem dX4_parse_64 : decode cX4_parse 64 = .ok (.iload_n 1, 1) := dk_27 (dk_at dksX4_parse_2 17 rfl rfl)
theorem dX4_parse_65 : decode cX4_parse 65 = .ok (.invokevirtual 62, 3) := dk_182 0 62 (dk_at dksX4_parse_2 18 rfl rfl)
theorem dX4_parse_68 : decode cX4_parse 68 = .ok (.aload_n 0, 1) := dk_42 (dk_at dksX4_parse_2 21 rfl rfl)
theorem dX4_parse_69 : decode cX4_parse 69 = .ok (.aload_n 0, 1) := dk_42 (dk_at dksX4_parse_2 22 rfl rfl)
theorem dX4_parse_70 : decode cX4_parse 70 = .ok (.getfield 25, 3) := dk_180 0 25 (dk_at dksX4_parse_3 0 rfl rfl)
theorem dX4_parse_73 : decode cX4_parse 73 = .ok (.invokevirtual 73, 3) := dk_182 0 73 (dk_at dksX4_parse_3 3 rfl rfl)
theorem dX4_parse_76 : decode cX4_parse 76 = .ok (.bipush 24, 2) := dk_16 24 (dk_at dksX4_parse_3 6 rfl rfl)
theorem dX4_parse_78 : decode cX4_parse 78 = .ok (.if_icmp .ge 7, 3) := dk_162 0 7 (dk_at dksX4_parse_3 8 rfl rfl)
theorem dX4_parse_81 : decode cX4_parse 81 = .ok (.iconst 1, 1) := dk_4 (dk_at dksX4_parse_3 11 rfl rfl)
theorem dX4_parse_82 : decode cX4_parse 82 = .ok (.goto 4, 3) := dk_167 0 4 (dk_at dksX4_parse_3 12 rfl rfl)
theorem dX4_parse_85 : decode cX4_parse 85 = .ok (.iconst 0, 1) := dk_3 (dk_at dksX4_parse_3 15 rfl rfl)
theorem dX4_parse_86 : decode cX4_parse 86 = .ok (.iconst 2, 1) := dk_5 (dk_at dksX4_parse_3 16 rfl rfl)
theorem dX4_parse_87 : decode cX4_parse 87 = .ok (.iload_n 1, 1) := dk_27 (dk_at dksX4_parse_3 17 rfl rfl)
theorem dX4_parse_88 : decode cX4_parse 88 = .ok (.invokevirtual 62, 3) := dk_182 0 62 (dk_at dksX4_parse_3 18 rfl rfl)
theorem dX4_parse_91 : decode cX4_parse 91 = .ok (.aload_n 0, 1) := dk_42 (dk_at dksX4_parse_3 21 rfl rfl)
theorem dX4_parse_92 : decode cX4_parse 92 = .ok (.getfield 25, 3) := dk_180 0 25 (dk_at dksX4_parse_4 0 rfl rfl)
theorem dX4_parse_95 : decode cX4_parse 95 = .ok (.iload_n 2, 1) := dk_28 (dk_at dksX4_parse_4 3 rfl rfl)
theorem dX4_parse_96 : decode cX4_parse 96 = .ok (.i2c, 1) := dk_146 (dk_at dksX4_parse_4 4 rfl rfl)
theorem dX4_parse_97 : decode cX4_parse 97 = .ok (.invokevirtual 75, 3) := dk_182 0 75 (dk_at dksX4_parse_4 5 rfl rfl)
theorem dX4_parse_100 : decode cX4_parse 100 = .ok (.pop, 1) := dk_87 (dk_at dksX4_parse_4 8 rfl rfl)
theorem dX4_parse_101 : decode cX4_parse 101 = .ok (.iinc 1 1, 3) := dk_132 1 1 (dk_at dksX4_parse_4 9 rfl rfl)
theorem dX4_parse_104 : decode cX4_parse 104 = .ok (.goto (-102), 3) := dk_167 255 154 (dk_at dksX4_parse_4 12 rfl rfl)
theorem dX4_parse_107 : decode cX4_parse 107 = .ok (.aload_n 0, 1) := dk_42 (dk_at dksX4_parse_4 15 rfl rfl)
theorem dX4_parse_108 : decode cX4_parse 108 = .ok (.getfield 29, 3) := dk_180 0 29 (dk_at dksX4_parse_4 16 rfl rfl)
theorem dX4_parse_111 : decode cX4_parse 111 = .ok (.ifCond .le 7, 3) := dk_158 0 7 (dk_at dksX4_parse_4 19 rfl rfl)
theorem dX4_parse_114 : decode cX4_parse 114 = .ok (.aload_n 0, 1) := dk_42 (dk_at dksX4_parse_4 22 rfl rfl)
theorem dX4_parse_115 : decode cX4_parse 115 = .ok (.invokevirtual 66, 3) := dk_182 0 66 (dk_at dksX4_parse_5 0 rfl rfl)
theorem dX4_parse_118 : decode cX4_parse 118 = .ok (.aload_n 0, 1) := dk_42 (dk_at dksX4_parse_5 3 rfl rfl)
theorem dX4_parse_119 : decode cX4_parse 119 = .ok (.getfield 18, 3) := dk_180 0 18 (dk_at dksX4_parse_5 4 rfl rfl)
theorem dX4_parse_122 : decode cX4_parse 122 = .ok (.areturn, 1) := dk_176 (dk_at dksX4_parse_5 7 rfl rfl)
abbrev cX4_check : ByteArray := prog_16_method_2_code
def yX4_check : MethodName := ⟨RX4, "check", "(ZII)V"⟩
def dkwX4_check_0 : List UInt8 := [27, 154, 0, 13, 187, 0, 33, 89, 28, 29, 183, 0, 35, 191, 177]
abbrev dktX4_check_0 : List UInt8 := dkwX4_check_0 ++ []
theorem dksX4_check_0 : cX4_check.data.toList.drop 0 = dktX4_check_0 := by decide +kernel
theorem dX4_check_0 : decode cX4_check 0 = .ok (.iload_n 1, 1) := dk_27 (dk_at dksX4_check_0 0 rfl rfl)
theorem dX4_check_1 : decode cX4_check 1 = .ok (.ifCond .ne 13, 3) := dk_154 0 13 (dk_at dksX4_check_0 1 rfl rfl)
theorem dX4_check_4 : decode cX4_check 4 = .ok (.new 33, 3) := dk_187 0 33 (dk_at dksX4_check_0 4 rfl rfl)
theorem dX4_check_7 : decode cX4_check 7 = .ok (.dup, 1) := dk_89 (dk_at dksX4_check_0 7 rfl rfl)
theorem dX4_check_8 : decode cX4_check 8 = .ok (.iload_n 2, 1) := dk_28 (dk_at dksX4_check_0 8 rfl rfl)
theorem dX4_check_9 : decode cX4_check 9 = .ok (.iload_n 3, 1) := dk_29 (dk_at dksX4_check_0 9 rfl rfl)
theorem dX4_check_10 : decode cX4_check 10 = .ok (.invokespecial 35, 3) := dk_183 0 35 (dk_at dksX4_check_0 10 rfl rfl)
theorem dX4_check_13 : decode cX4_check 13 = .ok (.athrow, 1) := dk_191 (dk_at dksX4_check_0 13 rfl rfl)
theorem dX4_check_14 : decode cX4_check 14 = .ok (.return_, 1) := dk_177 (dk_at dksX4_check_0 14 rfl rfl)
abbrev cX4_ends : ByteArray := prog_16_method_3_code
def yX4_ends : MethodName := ⟨RX4, "ends", "()V"⟩
def dkwX4_ends_1 : List UInt8 := [182, 0, 46, 182, 0, 50, 42, 180, 0, 25, 3, 182, 0, 54, 177]
abbrev dktX4_ends_1 : List UInt8 := dkwX4_ends_1 ++ []
def dkwX4_ends_0 : List UInt8 := [42, 180, 0, 18, 42, 180, 0, 18, 182, 0, 38, 42, 180, 0, 18, 42, 180, 0, 25, 182, 0, 42]
abbrev dktX4_ends_0 : List UInt8 := dkwX4_ends_0 ++ dktX4_ends_1
theorem dksX4_ends_0 : cX4_ends.data.toList.drop 0 = dktX4_ends_0 := by decide +kernel
theorem dksX4_ends_1 : cX4_ends.data.toList.drop 22 = dktX4_ends_1 := dk_seg dksX4_ends_0 22 rfl rfl
theorem dX4_ends_0 : decode cX4_ends 0 = .ok (.aload_n 0, 1) := dk_42 (dk_at dksX4_ends_0 0 rfl rfl)
theorem dX4_ends_1 : decode cX4_ends 1 = .ok (.getfield 18, 3) := dk_180 0 18 (dk_at dksX4_ends_0 1 rfl rfl)
theorem dX4_ends_4 : decode cX4_ends 4 = .ok (.aload_n 0, 1) := dk_42 (dk_at dksX4_ends_0 4 rfl rfl)
theorem dX4_ends_5 : decode cX4_ends 5 = .ok (.getfield 18, 3) := dk_180 0 18 (dk_at dksX4_ends_0 5 rfl rfl)
theorem dX4_ends_8 : decode cX4_ends 8 = .ok (.invokevirtual 38, 3) := dk_182 0 38 (dk_at dksX4_ends_0 8 rfl rfl)
theorem dX4_ends_11 : decode cX4_ends 11 = .ok (.aload_n 0, 1) := dk_42 (dk_at dksX4_ends_0 11 rfl rfl)
theorem dX4_ends_12 : decode cX4_ends 12 = .ok (.getfield 18, 3) := dk_180 0 18 (dk_at dksX4_ends_0 12 rfl rfl)
theorem dX4_ends_15 : decode cX4_ends 15 = .ok (.aload_n 0, 1) := dk_42 (dk_at dksX4_ends_0 15 rfl rfl)
theorem dX4_ends_16 : decode cX4_ends 16 = .ok (.getfield 25, 3) := dk_180 0 25 (dk_at dksX4_ends_0 16 rfl rfl)
theorem dX4_ends_19 : decode cX4_ends 19 = .ok (.invokevirtual 42, 3) := dk_182 0 42 (dk_at dksX4_ends_0 19 rfl rfl)
theorem dX4_ends_22 : decode cX4_ends 22 = .ok (.invokevirtual 46, 3) := dk_182 0 46 (dk_at dksX4_ends_1 0 rfl rfl)
theorem dX4_ends_25 : decode cX4_ends 25 = .ok (.invokevirtual 50, 3) := dk_182 0 50 (dk_at dksX4_ends_1 3 rfl rfl)
theorem dX4_ends_28 : decode cX4_ends 28 = .ok (.aload_n 0, 1) := dk_42 (dk_at dksX4_ends_1 6 rfl rfl)
theorem dX4_ends_29 : decode cX4_ends 29 = .ok (.getfield 25, 3) := dk_180 0 25 (dk_at dksX4_ends_1 7 rfl rfl)
theorem dX4_ends_32 : decode cX4_ends 32 = .ok (.iconst 0, 1) := dk_3 (dk_at dksX4_ends_1 10 rfl rfl)
theorem dX4_ends_33 : decode cX4_ends 33 = .ok (.invokevirtual 54, 3) := dk_182 0 54 (dk_at dksX4_ends_1 11 rfl rfl)
theorem dX4_ends_36 : decode cX4_ends 36 = .ok (.return_, 1) := dk_177 (dk_at dksX4_ends_1 14 rfl rfl)
theorem q122 : (Jvm.Cond.initialized "FoldLister$Parser") ∈ lw_all := lw_g (lw_at lw_m1 19 rfl) rfl
theorem q315 : (Jvm.Cond.fieldLinkNest "FoldLister$Parser" (58 : Nat) "FoldLister" "buffer" "[B" "FoldLister") ∈ lw_tbl := lw_at lw_m1 212 rfl
theorem q1002 : (Jvm.Cond.selects "FoldLister$Parser" ({ cls := "java/lang/Object", name := "getClass", desc := "()Ljava/lang/Class;" } : Jvm.MethodName) ({ cls := "java/lang/Object", name := "getClass", desc := "()Ljava/lang/Class;" } : Jvm.MethodName)) ∈ lw_all := lw_g (lw_at lw_m4 179 rfl) rfl
theorem q1873 : (Jvm.Cond.instantiable "FoldLister$Parser" (4 : Nat)) ∈ lw_all := lw_g (lw_at lw_m8 90 rfl) rfl
theorem q1875 : (Jvm.Cond.instanceMethod ({ cls := "FoldLister$Parser", name := "<init>", desc := "(LFoldLister;I)V" } : Jvm.MethodName)) ∈ lw_all := lw_g (lw_at lw_m8 92 rfl) rfl
theorem q1876 : (Jvm.Cond.code ({ cls := "FoldLister$Parser", name := "<init>", desc := "(LFoldLister;I)V" } : Jvm.MethodName) prog_16_method_1_code (3 : Nat) (Option.none : Option Jvm.ClassFile.FieldType)) ∈ lw_all := lw_g (lw_at lw_m8 93 rfl) rfl
theorem q1877 : (Jvm.Cond.methodLink "FoldLister$Parser" (9 : Nat) ({ cls := "java/lang/Object", name := "<init>", desc := "()V" } : Jvm.MethodName)) ∈ lw_all := lw_g (lw_at lw_m8 94 rfl) rfl
theorem q1878 : (Jvm.Cond.classLink "FoldLister$Parser" (15 : Nat) "FoldLister$Page") ∈ lw_all := lw_g (lw_at lw_m8 95 rfl) rfl
theorem q1879 : (Jvm.Cond.methodLink "FoldLister$Parser" (17 : Nat) ({ cls := "FoldLister$Page", name := "<init>", desc := "()V" } : Jvm.MethodName)) ∈ lw_all := lw_g (lw_at lw_m8 96 rfl) rfl
theorem q1880 : (Jvm.Cond.classLink "FoldLister$Parser" (22 : Nat) "java/lang/StringBuilder") ∈ lw_all := lw_g (lw_at lw_m8 97 rfl) rfl
theorem q1881 : (Jvm.Cond.methodLink "FoldLister$Parser" (24 : Nat) ({ cls := "java/lang/StringBuilder", name := "<init>", desc := "()V" } : Jvm.MethodName)) ∈ lw_all := lw_g (lw_at lw_m8 98 rfl) rfl
theorem q1882 : (Jvm.Cond.fieldLink "FoldLister$Parser" (29 : Nat) "FoldLister$Parser" "length" "I") ∈ lw_all := lw_g (lw_at lw_m8 99 rfl) rfl
theorem q1883 : (Jvm.Cond.fieldLink "FoldLister$Parser" (18 : Nat) "FoldLister$Parser" "made" "LFoldLister$Page;") ∈ lw_all := lw_g (lw_at lw_m8 100 rfl) rfl
theorem q1884 : (Jvm.Cond.fieldLink "FoldLister$Parser" (25 : Nat) "FoldLister$Parser" "text" "Ljava/lang/StringBuilder;") ∈ lw_all := lw_g (lw_at lw_m8 101 rfl) rfl
theorem q1885 : (Jvm.Cond.fieldLink "FoldLister$Parser" (3 : Nat) "FoldLister$Parser" "this$0" "LFoldLister;") ∈ lw_all := lw_g (lw_at lw_m8 102 rfl) rfl
theorem q1886 : (Jvm.Cond.laysFinal "FoldLister$Parser" "FoldLister$Parser" "length" "I") ∈ lw_all := lw_g (lw_at lw_m8 103 rfl) rfl
theorem q1887 : (Jvm.Cond.soleField "FoldLister$Parser" "length") ∈ lw_all := lw_g (lw_at lw_m8 104 rfl) rfl
theorem q1888 : (Jvm.Cond.laysFinal "FoldLister$Parser" "FoldLister$Parser" "made" "LFoldLister$Page;") ∈ lw_all := lw_g (lw_at lw_m8 105 rfl) rfl
theorem q1889 : (Jvm.Cond.soleField "FoldLister$Parser" "made") ∈ lw_all := lw_g (lw_at lw_m8 106 rfl) rfl
theorem q1890 : (Jvm.Cond.laysFinal "FoldLister$Parser" "FoldLister$Parser" "text" "Ljava/lang/StringBuilder;") ∈ lw_all := lw_g (lw_at lw_m8 107 rfl) rfl
theorem q1891 : (Jvm.Cond.soleField "FoldLister$Parser" "text") ∈ lw_all := lw_g (lw_at lw_m8 108 rfl) rfl
theorem q1892 : (Jvm.Cond.laysFinal "FoldLister$Parser" "FoldLister$Parser" "this$0" "LFoldLister;") ∈ lw_all := lw_g (lw_at lw_m8 109 rfl) rfl
theorem q1893 : (Jvm.Cond.soleField "FoldLister$Parser" "this$0") ∈ lw_all := lw_g (lw_at lw_m8 110 rfl) rfl
theorem q1894 : (Jvm.Cond.superclass "FoldLister$Parser" "java/lang/Object") ∈ lw_all := lw_g (lw_at lw_m8 111 rfl) rfl
theorem q1896 : (Jvm.Cond.instanceMethod ({ cls := "FoldLister$Parser", name := "parse", desc := "()LFoldLister$Page;" } : Jvm.MethodName)) ∈ lw_all := lw_g (lw_at lw_m8 113 rfl) rfl
theorem q1897 : (Jvm.Cond.selects "FoldLister$Parser" ({ cls := "FoldLister$Parser", name := "parse", desc := "()LFoldLister$Page;" } : Jvm.MethodName) ({ cls := "FoldLister$Parser", name := "parse", desc := "()LFoldLister$Page;" } : Jvm.MethodName)) ∈ lw_all := lw_g (lw_at lw_m8 114 rfl) rfl
theorem q1898 : (Jvm.Cond.code ({ cls := "FoldLister$Parser", name := "parse", desc := "()LFoldLister$Page;" } : Jvm.MethodName) prog_16_method_4_code (3 : Nat) (Option.some (Jvm.ClassFile.FieldType.object "FoldLister$Page"))) ∈ lw_all := lw_g (lw_at lw_m8 115 rfl) rfl
theorem q1899 : (Jvm.Cond.methodLink "FoldLister$Parser" (38 : Nat) ({ cls := "FoldLister$Page", name := "size", desc := "()I" } : Jvm.MethodName)) ∈ lw_all := lw_g (lw_at lw_m8 116 rfl) rfl
theorem q1900 : (Jvm.Cond.methodLink "FoldLister$Parser" (62 : Nat) ({ cls := "FoldLister$Parser", name := "check", desc := "(ZII)V" } : Jvm.MethodName)) ∈ lw_all := lw_g (lw_at lw_m8 117 rfl) rfl
theorem q1901 : (Jvm.Cond.privateMethod ({ cls := "FoldLister$Parser", name := "check", desc := "(ZII)V" } : Jvm.MethodName)) ∈ lw_tbl := lw_at lw_m8 118 rfl
theorem q1902 : (Jvm.Cond.instanceMethod ({ cls := "FoldLister$Parser", name := "check", desc := "(ZII)V" } : Jvm.MethodName)) ∈ lw_all := lw_g (lw_at lw_m8 119 rfl) rfl
theorem q1903 : (Jvm.Cond.code ({ cls := "FoldLister$Parser", name := "check", desc := "(ZII)V" } : Jvm.MethodName) prog_16_method_2_code (4 : Nat) (Option.none : Option Jvm.ClassFile.FieldType)) ∈ lw_all := lw_g (lw_at lw_m8 120 rfl) rfl
theorem q1904 : (Jvm.Cond.classLink "FoldLister$Parser" (33 : Nat) "FoldLister$Flaw") ∈ lw_all := lw_g (lw_at lw_m8 121 rfl) rfl
theorem q1913 : (Jvm.Cond.methodLink "FoldLister$Parser" (35 : Nat) ({ cls := "FoldLister$Flaw", name := "<init>", desc := "(II)V" } : Jvm.MethodName)) ∈ lw_all := lw_g (lw_at lw_m8 130 rfl) rfl
theorem q1932 : (Jvm.Cond.methodLink "FoldLister$Parser" (66 : Nat) ({ cls := "FoldLister$Parser", name := "ends", desc := "()V" } : Jvm.MethodName)) ∈ lw_all := lw_g (lw_at lw_m8 149 rfl) rfl
theorem q1933 : (Jvm.Cond.privateMethod ({ cls := "FoldLister$Parser", name := "ends", desc := "()V" } : Jvm.MethodName)) ∈ lw_tbl := lw_at lw_m8 150 rfl
theorem q1934 : (Jvm.Cond.instanceMethod ({ cls := "FoldLister$Parser", name := "ends", desc := "()V" } : Jvm.MethodName)) ∈ lw_all := lw_g (lw_at lw_m8 151 rfl) rfl
theorem q1935 : (Jvm.Cond.code ({ cls := "FoldLister$Parser", name := "ends", desc := "()V" } : Jvm.MethodName) prog_16_method_3_code (1 : Nat) (Option.none : Option Jvm.ClassFile.FieldType)) ∈ lw_all := lw_g (lw_at lw_m8 152 rfl) rfl
theorem q1936 : (Jvm.Cond.methodLink "FoldLister$Parser" (42 : Nat) ({ cls := "java/lang/StringBuilder", name := "toString", desc := "()Ljava/lang/String;" } : Jvm.MethodName)) ∈ lw_all := lw_g (lw_at lw_m8 153 rfl) rfl
theorem q1937 : (Jvm.Cond.methodLink "FoldLister$Parser" (46 : Nat) ({ cls := "FoldLister$Page", name := "comes", desc := "(Ljava/lang/String;)LFoldLister$Line;" } : Jvm.MethodName)) ∈ lw_all := lw_g (lw_at lw_m8 154 rfl) rfl
theorem q1989 : (Jvm.Cond.methodLink "FoldLister$Parser" (50 : Nat) ({ cls := "FoldLister$Page", name := "adds", desc := "(ILFoldLister$Line;)V" } : Jvm.MethodName)) ∈ lw_all := lw_g (lw_at lw_m8 206 rfl) rfl
theorem q2011 : (Jvm.Cond.methodLink "FoldLister$Parser" (54 : Nat) ({ cls := "java/lang/StringBuilder", name := "setLength", desc := "(I)V" } : Jvm.MethodName)) ∈ lw_all := lw_g (lw_at lw_m8 228 rfl) rfl
theorem q2012 : (Jvm.Cond.methodLinkNest "FoldLister$Parser" (69 : Nat) ({ cls := "FoldLister", name := "isPlain", desc := "(I)Z" } : Jvm.MethodName) "FoldLister") ∈ lw_tbl := lw_at lw_m8 229 rfl
theorem q2015 : (Jvm.Cond.methodLink "FoldLister$Parser" (73 : Nat) ({ cls := "java/lang/StringBuilder", name := "length", desc := "()I" } : Jvm.MethodName)) ∈ lw_all := lw_g (lw_at lw_m8 232 rfl) rfl
theorem q2016 : (Jvm.Cond.methodLink "FoldLister$Parser" (75 : Nat) ({ cls := "java/lang/StringBuilder", name := "append", desc := "(C)Ljava/lang/StringBuilder;" } : Jvm.MethodName)) ∈ lw_all := lw_g (lw_at lw_m8 233 rfl) rfl
theorem q3614 : (Jvm.Cond.castable "FoldLister$Parser" "java/lang/Object") ∈ lw_tbl := lw_at lw_m15 151 rfl
theorem in_X4 : ∀ w ∈ wsX40, w ∈ lw_all := lw_in wsX40 [1886, 1888, 1890, 1892] (by decide +kernel) (by decide +kernel)
/-! FoldLister$Flaw -/
set_option maxRecDepth 100000
def RX5 : String := "FoldLister$Flaw"
def TX5 : u_T := fun k => match k with
  | 0 => ("java/lang/Throwable", "cause", "Ljava/lang/Throwable;", false)
  | 1 => ("java/lang/Throwable", "stackTrace", "[Ljava/lang/StackTraceElement;", false)
  | 2 => ("java/lang/Throwable", "suppressedExceptions", "Ljava/util/List;", false)
  | 3 => ("java/lang/Throwable", "detailMessage", "Ljava/lang/String;", false)
  | 4 => ("java/lang/Throwable", "backtrace", "Ljava/lang/Object;", false)
  | 5 => ("java/lang/Throwable", "depth", "I", false)
  | 6 => ("FoldLister$Flaw", "code", "I", true)
  | _ => ("FoldLister$Flaw", "position", "I", true)
def tyX5 : Nat → FieldType := fun k => match k with
  | 0 => .object "java/lang/Throwable"
  | 1 => .array (.object "java/lang/StackTraceElement")
  | 2 => .object "java/util/List"
  | 3 => .object "java/lang/String"
  | 4 => .object "java/lang/Object"
  | 5 => .int
  | 6 => .int
  | _ => .int
abbrev wsX50 : List Cond := u_ws RX5 TX5 8
theorem nmX5 : ∀ a, a < 8 → ∀ b, b < 8 → a ≠ b → (TX5 a).2.1 ≠ (TX5 b).2.1 := by decide +kernel
theorem tyX5_ok : ∀ k, k < 8 → parseFieldDescriptor (TX5 k).2.2.1 = some (tyX5 k) := by decide +kernel
abbrev cX5_init : ByteArray := prog_9_method_1_code
def yX5_init : MethodName := ⟨RX5, "<init>", "(II)V"⟩
def dkwX5_init_0 : List UInt8 := [42, 1, 1, 3, 3, 183, 0, 1, 42, 27, 181, 0, 7, 42, 28, 181, 0, 13, 177]
abbrev dktX5_init_0 : List UInt8 := dkwX5_init_0 ++ []
theorem dksX5_init_0 : cX5_init.data.toList.drop 0 = dktX5_init_0 := by decide +kernel
theorem dX5_init_0 : decode cX5_init 0 = .ok (.aload_n 0, 1) := dk_42 (dk_at dksX5_init_0 0 rfl rfl)
theorem dX5_init_1 : decode cX5_init 1 = .ok (.aconst_null, 1) := dk_1 (dk_at dksX5_init_0 1 rfl rfl)
theorem dX5_init_2 : decode cX5_init 2 = .ok (.aconst_null, 1) := dk_1 (dk_at dksX5_init_0 2 rfl rfl)
theorem dX5_init_3 : decode cX5_init 3 = .ok (.iconst 0, 1) := dk_3 (dk_at dksX5_init_0 3 rfl rfl)
theorem dX5_init_4 : decode cX5_init 4 = .ok (.iconst 0, 1) := dk_3 (dk_at dksX5_init_0 4 rfl rfl)
theorem dX5_init_5 : decode cX5_init 5 = .ok (.invokespecial 1, 3) := dk_183 0 1 (dk_at dksX5_init_0 5 rfl rfl)
theorem dX5_init_8 : decode cX5_init 8 = .ok (.aload_n 0, 1) := dk_42 (dk_at dksX5_init_0 8 rfl rfl)
theorem dX5_init_9 : decode cX5_init 9 = .ok (.iload_n 1, 1) := dk_27 (dk_at dksX5_init_0 9 rfl rfl)
theorem dX5_init_10 : decode cX5_init 10 = .ok (.putfield 7, 3) := dk_181 0 7 (dk_at dksX5_init_0 10 rfl rfl)
theorem dX5_init_13 : decode cX5_init 13 = .ok (.aload_n 0, 1) := dk_42 (dk_at dksX5_init_0 13 rfl rfl)
theorem dX5_init_14 : decode cX5_init 14 = .ok (.iload_n 2, 1) := dk_28 (dk_at dksX5_init_0 14 rfl rfl)
theorem dX5_init_15 : decode cX5_init 15 = .ok (.putfield 13, 3) := dk_181 0 13 (dk_at dksX5_init_0 15 rfl rfl)
theorem dX5_init_18 : decode cX5_init 18 = .ok (.return_, 1) := dk_177 (dk_at dksX5_init_0 18 rfl rfl)
theorem q123 : (Jvm.Cond.initialized "FoldLister$Flaw") ∈ lw_all := lw_g (lw_at lw_m1 20 rfl) rfl
theorem q459 : (Jvm.Cond.selects "FoldLister$Flaw" ({ cls := "java/lang/Throwable", name := "fillInStackTrace", desc := "()Ljava/lang/Throwable;" } : Jvm.MethodName) ({ cls := "java/lang/Throwable", name := "fillInStackTrace", desc := "()Ljava/lang/Throwable;" } : Jvm.MethodName)) ∈ lw_all := lw_g (lw_at lw_m2 116 rfl) rfl
theorem q977 : (Jvm.Cond.selects "FoldLister$Flaw" ({ cls := "java/lang/Throwable", name := "toString", desc := "()Ljava/lang/String;" } : Jvm.MethodName) ({ cls := "java/lang/Throwable", name := "toString", desc := "()Ljava/lang/String;" } : Jvm.MethodName)) ∈ lw_all := lw_g (lw_at lw_m4 154 rfl) rfl
theorem q996 : (Jvm.Cond.selects "FoldLister$Flaw" ({ cls := "java/lang/Object", name := "getClass", desc := "()Ljava/lang/Class;" } : Jvm.MethodName) ({ cls := "java/lang/Object", name := "getClass", desc := "()Ljava/lang/Class;" } : Jvm.MethodName)) ∈ lw_all := lw_g (lw_at lw_m4 173 rfl) rfl
theorem q1031 : (Jvm.Cond.selects "FoldLister$Flaw" ({ cls := "java/lang/Throwable", name := "getLocalizedMessage", desc := "()Ljava/lang/String;" } : Jvm.MethodName) ({ cls := "java/lang/Throwable", name := "getLocalizedMessage", desc := "()Ljava/lang/String;" } : Jvm.MethodName)) ∈ lw_all := lw_g (lw_at lw_m4 208 rfl) rfl
theorem q1043 : (Jvm.Cond.selects "FoldLister$Flaw" ({ cls := "java/lang/Throwable", name := "getMessage", desc := "()Ljava/lang/String;" } : Jvm.MethodName) ({ cls := "java/lang/Throwable", name := "getMessage", desc := "()Ljava/lang/String;" } : Jvm.MethodName)) ∈ lw_all := lw_g (lw_at lw_m4 220 rfl) rfl
theorem q1905 : (Jvm.Cond.instantiable "FoldLister$Flaw" (8 : Nat)) ∈ lw_all := lw_g (lw_at lw_m8 122 rfl) rfl
theorem q1906 : (Jvm.Cond.castable "FoldLister$Flaw" "FoldLister$Flaw") ∈ lw_tbl := lw_at lw_m8 123 rfl
theorem q1907 : (Jvm.Cond.selects "FoldLister$Flaw" ({ cls := "java/lang/Throwable", name := "fillInStackTrace", desc := "(I)Ljava/lang/Throwable;" } : Jvm.MethodName) ({ cls := "java/lang/Throwable", name := "fillInStackTrace", desc := "(I)Ljava/lang/Throwable;" } : Jvm.MethodName)) ∈ lw_all := lw_g (lw_at lw_m8 124 rfl) rfl
theorem q1908 : (Jvm.Cond.lays "FoldLister$Flaw" "java/lang/Throwable" "cause" "Ljava/lang/Throwable;") ∈ lw_all := lw_g (lw_at lw_m8 125 rfl) rfl
theorem q1909 : (Jvm.Cond.lays "FoldLister$Flaw" "java/lang/Throwable" "stackTrace" "[Ljava/lang/StackTraceElement;") ∈ lw_all := lw_g (lw_at lw_m8 126 rfl) rfl
theorem q1910 : (Jvm.Cond.lays "FoldLister$Flaw" "java/lang/Throwable" "suppressedExceptions" "Ljava/util/List;") ∈ lw_all := lw_g (lw_at lw_m8 127 rfl) rfl
theorem q1911 : (Jvm.Cond.lays "FoldLister$Flaw" "java/lang/Throwable" "detailMessage" "Ljava/lang/String;") ∈ lw_all := lw_g (lw_at lw_m8 128 rfl) rfl
theorem q1912 : (Jvm.Cond.lays "FoldLister$Flaw" "java/lang/Throwable" "backtrace" "Ljava/lang/Object;") ∈ lw_all := lw_g (lw_at lw_m8 129 rfl) rfl
theorem q1914 : (Jvm.Cond.instanceMethod ({ cls := "FoldLister$Flaw", name := "<init>", desc := "(II)V" } : Jvm.MethodName)) ∈ lw_all := lw_g (lw_at lw_m8 131 rfl) rfl
theorem q1915 : (Jvm.Cond.code ({ cls := "FoldLister$Flaw", name := "<init>", desc := "(II)V" } : Jvm.MethodName) prog_9_method_1_code (3 : Nat) (Option.none : Option Jvm.ClassFile.FieldType)) ∈ lw_all := lw_g (lw_at lw_m8 132 rfl) rfl
theorem q1916 : (Jvm.Cond.methodLink "FoldLister$Flaw" (1 : Nat) ({ cls := "java/lang/Exception", name := "<init>", desc := "(Ljava/lang/String;Ljava/lang/Throwable;ZZ)V" } : Jvm.MethodName)) ∈ lw_all := lw_g (lw_at lw_m8 133 rfl) rfl
theorem q1922 : (Jvm.Cond.fieldLink "FoldLister$Flaw" (7 : Nat) "FoldLister$Flaw" "code" "I") ∈ lw_all := lw_g (lw_at lw_m8 139 rfl) rfl
theorem q1924 : (Jvm.Cond.fieldLink "FoldLister$Flaw" (13 : Nat) "FoldLister$Flaw" "position" "I") ∈ lw_all := lw_g (lw_at lw_m8 141 rfl) rfl
theorem q1926 : (Jvm.Cond.laysFinal "FoldLister$Flaw" "FoldLister$Flaw" "code" "I") ∈ lw_all := lw_g (lw_at lw_m8 143 rfl) rfl
theorem q1927 : (Jvm.Cond.soleField "FoldLister$Flaw" "code") ∈ lw_all := lw_g (lw_at lw_m8 144 rfl) rfl
theorem q1928 : (Jvm.Cond.laysFinal "FoldLister$Flaw" "FoldLister$Flaw" "position" "I") ∈ lw_all := lw_g (lw_at lw_m8 145 rfl) rfl
theorem q1929 : (Jvm.Cond.soleField "FoldLister$Flaw" "position") ∈ lw_all := lw_g (lw_at lw_m8 146 rfl) rfl
theorem q1930 : (Jvm.Cond.lays "FoldLister$Flaw" "java/lang/Throwable" "depth" "I") ∈ lw_all := lw_g (lw_at lw_m8 147 rfl) rfl
theorem q1931 : (Jvm.Cond.superclass "FoldLister$Flaw" "java/lang/Exception") ∈ lw_all := lw_g (lw_at lw_m8 148 rfl) rfl
theorem q3615 : (Jvm.Cond.castable "FoldLister$Flaw" "java/lang/Object") ∈ lw_tbl := lw_at lw_m15 152 rfl
theorem in_X5 : ∀ w ∈ wsX50, w ∈ lw_all := lw_in wsX50 [1908, 1909, 1910, 1911, 1912, 1930, 1926, 1928] (by decide +kernel) (by decide +kernel)
/-! FoldLister$Line -/
set_option maxRecDepth 100000
def RX6 : String := "FoldLister$Line"
def TX6 : u_T := fun k => match k with
  | 0 => ("FoldLister$Line", "key", "I", true)
  | 1 => ("FoldLister$Line", "text", "Ljava/lang/String;", true)
  | 2 => ("FoldLister$Line", "label", "Ljava/lang/String;", true)
  | 3 => ("FoldLister$Line", "reference", "Ljava/lang/String;", true)
  | _ => ("FoldLister$Line", "closed", "Z", true)
def tyX6 : Nat → FieldType := fun k => match k with
  | 0 => .int
  | 1 => .object "java/lang/String"
  | 2 => .object "java/lang/String"
  | 3 => .object "java/lang/String"
  | _ => .boolean
abbrev wsX60 : List Cond := u_ws RX6 TX6 5
theorem nmX6 : ∀ a, a < 5 → ∀ b, b < 5 → a ≠ b → (TX6 a).2.1 ≠ (TX6 b).2.1 := by decide +kernel
theorem tyX6_ok : ∀ k, k < 5 → parseFieldDescriptor (TX6 k).2.2.1 = some (tyX6 k) := by decide +kernel
abbrev cX6_byteAt : ByteArray := prog_11_method_5_code
def yX6_byteAt : MethodName := ⟨RX6, "byteAt", "(I)I"⟩
def dkwX6_byteAt_0 : List UInt8 := [27, 42, 180, 0, 15, 182, 0, 42, 162, 0, 14, 42, 180, 0, 15, 27, 182, 0, 48, 167, 0, 4, 2, 172]
abbrev dktX6_byteAt_0 : List UInt8 := dkwX6_byteAt_0 ++ []
theorem dksX6_byteAt_0 : cX6_byteAt.data.toList.drop 0 = dktX6_byteAt_0 := by decide +kernel
theorem dX6_byteAt_0 : decode cX6_byteAt 0 = .ok (.iload_n 1, 1) := dk_27 (dk_at dksX6_byteAt_0 0 rfl rfl)
theorem dX6_byteAt_1 : decode cX6_byteAt 1 = .ok (.aload_n 0, 1) := dk_42 (dk_at dksX6_byteAt_0 1 rfl rfl)
theorem dX6_byteAt_2 : decode cX6_byteAt 2 = .ok (.getfield 15, 3) := dk_180 0 15 (dk_at dksX6_byteAt_0 2 rfl rfl)
theorem dX6_byteAt_5 : decode cX6_byteAt 5 = .ok (.invokevirtual 42, 3) := dk_182 0 42 (dk_at dksX6_byteAt_0 5 rfl rfl)
theorem dX6_byteAt_8 : decode cX6_byteAt 8 = .ok (.if_icmp .ge 14, 3) := dk_162 0 14 (dk_at dksX6_byteAt_0 8 rfl rfl)
theorem dX6_byteAt_11 : decode cX6_byteAt 11 = .ok (.aload_n 0, 1) := dk_42 (dk_at dksX6_byteAt_0 11 rfl rfl)
theorem dX6_byteAt_12 : decode cX6_byteAt 12 = .ok (.getfield 15, 3) := dk_180 0 15 (dk_at dksX6_byteAt_0 12 rfl rfl)
theorem dX6_byteAt_15 : decode cX6_byteAt 15 = .ok (.iload_n 1, 1) := dk_27 (dk_at dksX6_byteAt_0 15 rfl rfl)
theorem dX6_byteAt_16 : decode cX6_byteAt 16 = .ok (.invokevirtual 48, 3) := dk_182 0 48 (dk_at dksX6_byteAt_0 16 rfl rfl)
theorem dX6_byteAt_19 : decode cX6_byteAt 19 = .ok (.goto 4, 3) := dk_167 0 4 (dk_at dksX6_byteAt_0 19 rfl rfl)
theorem dX6_byteAt_22 : decode cX6_byteAt 22 = .ok (.iconst (-1), 1) := dk_2 (dk_at dksX6_byteAt_0 22 rfl rfl)
theorem dX6_byteAt_23 : decode cX6_byteAt 23 = .ok (.ireturn, 1) := dk_172 (dk_at dksX6_byteAt_0 23 rfl rfl)
abbrev cX6_closed : ByteArray := prog_11_method_4_code
def yX6_closed : MethodName := ⟨RX6, "closed", "(Z)LFoldLister$Line;"⟩
def dkwX6_closed_0 : List UInt8 := [27, 42, 180, 0, 19, 160, 0, 7, 42, 167, 0, 12, 187, 0, 10, 89, 42, 27, 183, 0, 39, 176]
abbrev dktX6_closed_0 : List UInt8 := dkwX6_closed_0 ++ []
theorem dksX6_closed_0 : cX6_closed.data.toList.drop 0 = dktX6_closed_0 := by decide +kernel
theorem dX6_closed_0 : decode cX6_closed 0 = .ok (.iload_n 1, 1) := dk_27 (dk_at dksX6_closed_0 0 rfl rfl)
theorem dX6_closed_1 : decode cX6_closed 1 = .ok (.aload_n 0, 1) := dk_42 (dk_at dksX6_closed_0 1 rfl rfl)
theorem dX6_closed_2 : decode cX6_closed 2 = .ok (.getfield 19, 3) := dk_180 0 19 (dk_at dksX6_closed_0 2 rfl rfl)
theorem dX6_closed_5 : decode cX6_closed 5 = .ok (.if_icmp .ne 7, 3) := dk_160 0 7 (dk_at dksX6_closed_0 5 rfl rfl)
theorem dX6_closed_8 : decode cX6_closed 8 = .ok (.aload_n 0, 1) := dk_42 (dk_at dksX6_closed_0 8 rfl rfl)
theorem dX6_closed_9 : decode cX6_closed 9 = .ok (.goto 12, 3) := dk_167 0 12 (dk_at dksX6_closed_0 9 rfl rfl)
theorem dX6_closed_12 : decode cX6_closed 12 = .ok (.new 10, 3) := dk_187 0 10 (dk_at dksX6_closed_0 12 rfl rfl)
theorem dX6_closed_15 : decode cX6_closed 15 = .ok (.dup, 1) := dk_89 (dk_at dksX6_closed_0 15 rfl rfl)
theorem dX6_closed_16 : decode cX6_closed 16 = .ok (.aload_n 0, 1) := dk_42 (dk_at dksX6_closed_0 16 rfl rfl)
theorem dX6_closed_17 : decode cX6_closed 17 = .ok (.iload_n 1, 1) := dk_27 (dk_at dksX6_closed_0 17 rfl rfl)
theorem dX6_closed_18 : decode cX6_closed 18 = .ok (.invokespecial 39, 3) := dk_183 0 39 (dk_at dksX6_closed_0 18 rfl rfl)
theorem dX6_closed_21 : decode cX6_closed 21 = .ok (.areturn, 1) := dk_176 (dk_at dksX6_closed_0 21 rfl rfl)
abbrev cX6_init : ByteArray := prog_11_method_2_code
def yX6_init : MethodName := ⟨RX6, "<init>", "(LFoldLister$Line;Z)V"⟩
def dkwX6_init_1 : List UInt8 := [180, 0, 27, 181, 0, 27, 42, 43, 180, 0, 33, 181, 0, 33, 42, 28, 181, 0, 19, 177]
abbrev dktX6_init_1 : List UInt8 := dkwX6_init_1 ++ []
def dkwX6_init_0 : List UInt8 := [42, 183, 0, 3, 42, 43, 180, 0, 9, 181, 0, 9, 42, 43, 180, 0, 15, 181, 0, 15, 42, 43]
abbrev dktX6_init_0 : List UInt8 := dkwX6_init_0 ++ dktX6_init_1
theorem dksX6_init_0 : cX6_init.data.toList.drop 0 = dktX6_init_0 := by decide +kernel
theorem dksX6_init_1 : cX6_init.data.toList.drop 22 = dktX6_init_1 := dk_seg dksX6_init_0 22 rfl rfl
theorem dX6_init_0 : decode cX6_init 0 = .ok (.aload_n 0, 1) := dk_42 (dk_at dksX6_init_0 0 rfl rfl)
theorem dX6_init_1 : decode cX6_init 1 = .ok (.invokespecial 3, 3) := dk_183 0 3 (dk_at dksX6_init_0 1 rfl rfl)
theorem dX6_init_4 : decode cX6_init 4 = .ok (.aload_n 0, 1) := dk_42 (dk_at dksX6_init_0 4 rfl rfl)
theorem dX6_init_5 : decode cX6_init 5 = .ok (.aload_n 1, 1) := dk_43 (dk_at dksX6_init_0 5 rfl rfl)
theorem dX6_init_6 : decode cX6_init 6 = .ok (.getfield 9, 3) := dk_180 0 9 (dk_at dksX6_init_0 6 rfl rfl)
theorem dX6_init_9 : decode cX6_init 9 = .ok (.putfield 9, 3) := dk_181 0 9 (dk_at dksX6_init_0 9 rfl rfl)
theorem dX6_init_12 : decode cX6_init 12 = .ok (.aload_n 0, 1) := dk_42 (dk_at dksX6_init_0 12 rfl rfl)
theorem dX6_init_13 : decode cX6_init 13 = .ok (.aload_n 1, 1) := dk_43 (dk_at dksX6_init_0 13 rfl rfl)
theorem dX6_init_14 : decode cX6_init 14 = .ok (.getfield 15, 3) := dk_180 0 15 (dk_at dksX6_init_0 14 rfl rfl)
theorem dX6_init_17 : decode cX6_init 17 = .ok (.putfield 15, 3) := dk_181 0 15 (dk_at dksX6_init_0 17 rfl rfl)
theorem dX6_init_20 : decode cX6_init 20 = .ok (.aload_n 0, 1) := dk_42 (dk_at dksX6_init_0 20 rfl rfl)
theorem dX6_init_21 : decode cX6_init 21 = .ok (.aload_n 1, 1) := dk_43 (dk_at dksX6_init_0 21 rfl rfl)
theorem dX6_init_22 : decode cX6_init 22 = .ok (.getfield 27, 3) := dk_180 0 27 (dk_at dksX6_init_1 0 rfl rfl)
theorem dX6_init_25 : decode cX6_init 25 = .ok (.putfield 27, 3) := dk_181 0 27 (dk_at dksX6_init_1 3 rfl rfl)
theorem dX6_init_28 : decode cX6_init 28 = .ok (.aload_n 0, 1) := dk_42 (dk_at dksX6_init_1 6 rfl rfl)
theorem dX6_init_29 : decode cX6_init 29 = .ok (.aload_n 1, 1) := dk_43 (dk_at dksX6_init_1 7 rfl rfl)
theorem dX6_init_30 : decode cX6_init 30 = .ok (.getfield 33, 3) := dk_180 0 33 (dk_at dksX6_init_1 8 rfl rfl)
theorem dX6_init_33 : decode cX6_init 33 = .ok (.putfield 33, 3) := dk_181 0 33 (dk_at dksX6_init_1 11 rfl rfl)
theorem dX6_init_36 : decode cX6_init 36 = .ok (.aload_n 0, 1) := dk_42 (dk_at dksX6_init_1 14 rfl rfl)
theorem dX6_init_37 : decode cX6_init 37 = .ok (.iload_n 2, 1) := dk_28 (dk_at dksX6_init_1 15 rfl rfl)
theorem dX6_init_38 : decode cX6_init 38 = .ok (.putfield 19, 3) := dk_181 0 19 (dk_at dksX6_init_1 16 rfl rfl)
theorem dX6_init_41 : decode cX6_init 41 = .ok (.return_, 1) := dk_177 (dk_at dksX6_init_1 19 rfl rfl)
abbrev cX6_init_2 : ByteArray := prog_11_method_1_code
def yX6_init_2 : MethodName := ⟨RX6, "<init>", "(ILjava/lang/String;Z)V"⟩
def dkwX6_init_2_1 : List UInt8 := [181, 0, 27, 42, 42, 182, 0, 30, 181, 0, 33, 177]
abbrev dktX6_init_2_1 : List UInt8 := dkwX6_init_2_1 ++ []
def dkwX6_init_2_0 : List UInt8 := [42, 183, 0, 3, 42, 27, 181, 0, 9, 42, 44, 181, 0, 15, 42, 29, 181, 0, 19, 42, 42, 182, 0, 23]
abbrev dktX6_init_2_0 : List UInt8 := dkwX6_init_2_0 ++ dktX6_init_2_1
theorem dksX6_init_2_0 : cX6_init_2.data.toList.drop 0 = dktX6_init_2_0 := by decide +kernel
theorem dksX6_init_2_1 : cX6_init_2.data.toList.drop 24 = dktX6_init_2_1 := dk_seg dksX6_init_2_0 24 rfl rfl
theorem dX6_init_2_0 : decode cX6_init_2 0 = .ok (.aload_n 0, 1) := dk_42 (dk_at dksX6_init_2_0 0 rfl rfl)
theorem dX6_init_2_1 : decode cX6_init_2 1 = .ok (.invokespecial 3, 3) := dk_183 0 3 (dk_at dksX6_init_2_0 1 rfl rfl)
theorem dX6_init_2_4 : decode cX6_init_2 4 = .ok (.aload_n 0, 1) := dk_42 (dk_at dksX6_init_2_0 4 rfl rfl)
theorem dX6_init_2_5 : decode cX6_init_2 5 = .ok (.iload_n 1, 1) := dk_27 (dk_at dksX6_init_2_0 5 rfl rfl)
theorem dX6_init_2_6 : decode cX6_init_2 6 = .ok (.putfield 9, 3) := dk_181 0 9 (dk_at dksX6_init_2_0 6 rfl rfl)
theorem dX6_init_2_9 : decode cX6_init_2 9 = .ok (.aload_n 0, 1) := dk_42 (dk_at dksX6_init_2_0 9 rfl rfl)
theorem dX6_init_2_10 : decode cX6_init_2 10 = .ok (.aload_n 2, 1) := dk_44 (dk_at dksX6_init_2_0 10 rfl rfl)
theorem dX6_init_2_11 : decode cX6_init_2 11 = .ok (.putfield 15, 3) := dk_181 0 15 (dk_at dksX6_init_2_0 11 rfl rfl)
theorem dX6_init_2_14 : decode cX6_init_2 14 = .ok (.aload_n 0, 1) := dk_42 (dk_at dksX6_init_2_0 14 rfl rfl)
theorem dX6_init_2_15 : decode cX6_init_2 15 = .ok (.iload_n 3, 1) := dk_29 (dk_at dksX6_init_2_0 15 rfl rfl)
theorem dX6_init_2_16 : decode cX6_init_2 16 = .ok (.putfield 19, 3) := dk_181 0 19 (dk_at dksX6_init_2_0 16 rfl rfl)
theorem dX6_init_2_19 : decode cX6_init_2 19 = .ok (.aload_n 0, 1) := dk_42 (dk_at dksX6_init_2_0 19 rfl rfl)
theorem dX6_init_2_20 : decode cX6_init_2 20 = .ok (.aload_n 0, 1) := dk_42 (dk_at dksX6_init_2_0 20 rfl rfl)
theorem dX6_init_2_21 : decode cX6_init_2 21 = .ok (.invokevirtual 23, 3) := dk_182 0 23 (dk_at dksX6_init_2_0 21 rfl rfl)
theorem dX6_init_2_24 : decode cX6_init_2 24 = .ok (.putfield 27, 3) := dk_181 0 27 (dk_at dksX6_init_2_1 0 rfl rfl)
theorem dX6_init_2_27 : decode cX6_init_2 27 = .ok (.aload_n 0, 1) := dk_42 (dk_at dksX6_init_2_1 3 rfl rfl)
theorem dX6_init_2_28 : decode cX6_init_2 28 = .ok (.aload_n 0, 1) := dk_42 (dk_at dksX6_init_2_1 4 rfl rfl)
theorem dX6_init_2_29 : decode cX6_init_2 29 = .ok (.invokevirtual 30, 3) := dk_182 0 30 (dk_at dksX6_init_2_1 5 rfl rfl)
theorem dX6_init_2_32 : decode cX6_init_2 32 = .ok (.putfield 33, 3) := dk_181 0 33 (dk_at dksX6_init_2_1 8 rfl rfl)
theorem dX6_init_2_35 : decode cX6_init_2 35 = .ok (.return_, 1) := dk_177 (dk_at dksX6_init_2_1 11 rfl rfl)
abbrev cX6_readLabel : ByteArray := prog_11_method_8_code
def yX6_readLabel : MethodName := ⟨RX6, "readLabel", "()Ljava/lang/String;"⟩
def dkwX6_readLabel_1 : List UInt8 := [182, 0, 42, 96, 182, 0, 52, 16, 58, 160, 0, 7, 43, 167, 0, 5, 18, 71, 176]
abbrev dktX6_readLabel_1 : List UInt8 := dkwX6_readLabel_1 ++ []
def dkwX6_readLabel_0 : List UInt8 := [42, 42, 182, 0, 64, 182, 0, 67, 76, 43, 182, 0, 42, 16, 8, 163, 0, 25, 42, 42, 182, 0, 64, 43]
abbrev dktX6_readLabel_0 : List UInt8 := dkwX6_readLabel_0 ++ dktX6_readLabel_1
theorem dksX6_readLabel_0 : cX6_readLabel.data.toList.drop 0 = dktX6_readLabel_0 := by decide +kernel
theorem dksX6_readLabel_1 : cX6_readLabel.data.toList.drop 24 = dktX6_readLabel_1 := dk_seg dksX6_readLabel_0 24 rfl rfl
theorem dX6_readLabel_0 : decode cX6_readLabel 0 = .ok (.aload_n 0, 1) := dk_42 (dk_at dksX6_readLabel_0 0 rfl rfl)
theorem dX6_readLabel_1 : decode cX6_readLabel 1 = .ok (.aload_n 0, 1) := dk_42 (dk_at dksX6_readLabel_0 1 rfl rfl)
theorem dX6_readLabel_2 : decode cX6_readLabel 2 = .ok (.invokevirtual 64, 3) := dk_182 0 64 (dk_at dksX6_readLabel_0 2 rfl rfl)
theorem dX6_readLabel_5 : decode cX6_readLabel 5 = .ok (.invokevirtual 67, 3) := dk_182 0 67 (dk_at dksX6_readLabel_0 5 rfl rfl)
theorem dX6_readLabel_8 : decode cX6_readLabel 8 = .ok (.astore_n 1, 1) := dk_76 (dk_at dksX6_readLabel_0 8 rfl rfl)
theorem dX6_readLabel_9 : decode cX6_readLabel 9 = .ok (.aload_n 1, 1) := dk_43 (dk_at dksX6_readLabel_0 9 rfl rfl)
theorem dX6_readLabel_10 : decode cX6_readLabel 10 = .ok (.invokevirtual 42, 3) := dk_182 0 42 (dk_at dksX6_readLabel_0 10 rfl rfl)
theorem dX6_readLabel_13 : decode cX6_readLabel 13 = .ok (.bipush 8, 2) := dk_16 8 (dk_at dksX6_readLabel_0 13 rfl rfl)
theorem dX6_readLabel_15 : decode cX6_readLabel 15 = .ok (.if_icmp .gt 25, 3) := dk_163 0 25 (dk_at dksX6_readLabel_0 15 rfl rfl)
theorem dX6_readLabel_18 : decode cX6_readLabel 18 = .ok (.aload_n 0, 1) := dk_42 (dk_at dksX6_readLabel_0 18 rfl rfl)
theorem dX6_readLabel_19 : decode cX6_readLabel 19 = .ok (.aload_n 0, 1) := dk_42 (dk_at dksX6_readLabel_0 19 rfl rfl)
theorem dX6_readLabel_20 : decode cX6_readLabel 20 = .ok (.invokevirtual 64, 3) := dk_182 0 64 (dk_at dksX6_readLabel_0 20 rfl rfl)
theorem dX6_readLabel_23 : decode cX6_readLabel 23 = .ok (.aload_n 1, 1) := dk_43 (dk_at dksX6_readLabel_0 23 rfl rfl)
theorem dX6_readLabel_24 : decode cX6_readLabel 24 = .ok (.invokevirtual 42, 3) := dk_182 0 42 (dk_at dksX6_readLabel_1 0 rfl rfl)
theorem dX6_readLabel_27 : decode cX6_readLabel 27 = .ok (.iadd, 1) := dk_96 (dk_at dksX6_readLabel_1 3 rfl rfl)
theorem dX6_readLabel_28 : decode cX6_readLabel 28 = .ok (.invokevirtual 52, 3) := dk_182 0 52 (dk_at dksX6_readLabel_1 4 rfl rfl)
theorem dX6_readLabel_31 : decode cX6_readLabel 31 = .ok (.bipush 58, 2) := dk_16 58 (dk_at dksX6_readLabel_1 7 rfl rfl)
theorem dX6_readLabel_33 : decode cX6_readLabel 33 = .ok (.if_icmp .ne 7, 3) := dk_160 0 7 (dk_at dksX6_readLabel_1 9 rfl rfl)
theorem dX6_readLabel_36 : decode cX6_readLabel 36 = .ok (.aload_n 1, 1) := dk_43 (dk_at dksX6_readLabel_1 12 rfl rfl)
theorem dX6_readLabel_37 : decode cX6_readLabel 37 = .ok (.goto 5, 3) := dk_167 0 5 (dk_at dksX6_readLabel_1 13 rfl rfl)
theorem dX6_readLabel_40 : decode cX6_readLabel 40 = .ok (.ldc 71, 2) := dk_18 71 (dk_at dksX6_readLabel_1 16 rfl rfl)
theorem dX6_readLabel_42 : decode cX6_readLabel 42 = .ok (.areturn, 1) := dk_176 (dk_at dksX6_readLabel_1 18 rfl rfl)
abbrev cX6_blanks : ByteArray := prog_11_method_6_code
def yX6_blanks : MethodName := ⟨RX6, "blanks", "()I"⟩
def dkwX6_blanks_0 : List UInt8 := [3, 60, 42, 27, 182, 0, 52, 16, 32, 160, 0, 9, 132, 1, 1, 167, 255, 243, 27, 172]
abbrev dktX6_blanks_0 : List UInt8 := dkwX6_blanks_0 ++ []
theorem dksX6_blanks_0 : cX6_blanks.data.toList.drop 0 = dktX6_blanks_0 := by decide +kernel
theorem dX6_blanks_0 : decode cX6_blanks 0 = .ok (.iconst 0, 1) := dk_3 (dk_at dksX6_blanks_0 0 rfl rfl)
theorem dX6_blanks_1 : decode cX6_blanks 1 = .ok (.istore_n 1, 1) := dk_60 (dk_at dksX6_blanks_0 1 rfl rfl)
theorem dX6_blanks_2 : decode cX6_blanks 2 = .ok (.aload_n 0, 1) := dk_42 (dk_at dksX6_blanks_0 2 rfl rfl)
theorem dX6_blanks_3 : decode cX6_blanks 3 = .ok (.iload_n 1, 1) := dk_27 (dk_at dksX6_blanks_0 3 rfl rfl)
theorem dX6_blanks_4 : decode cX6_blanks 4 = .ok (.invokevirtual 52, 3) := dk_182 0 52 (dk_at dksX6_blanks_0 4 rfl rfl)
theorem dX6_blanks_7 : decode cX6_blanks 7 = .ok (.bipush 32, 2) := dk_16 32 (dk_at dksX6_blanks_0 7 rfl rfl)
theorem dX6_blanks_9 : decode cX6_blanks 9 = .ok (.if_icmp .ne 9, 3) := dk_160 0 9 (dk_at dksX6_blanks_0 9 rfl rfl)
theorem dX6_blanks_12 : decode cX6_blanks 12 = .ok (.iinc 1 1, 3) := dk_132 1 1 (dk_at dksX6_blanks_0 12 rfl rfl)
theorem dX6_blanks_15 : decode cX6_blanks 15 = .ok (.goto (-13), 3) := dk_167 255 243 (dk_at dksX6_blanks_0 15 rfl rfl)
theorem dX6_blanks_18 : decode cX6_blanks 18 = .ok (.iload_n 1, 1) := dk_27 (dk_at dksX6_blanks_0 18 rfl rfl)
theorem dX6_blanks_19 : decode cX6_blanks 19 = .ok (.ireturn, 1) := dk_172 (dk_at dksX6_blanks_0 19 rfl rfl)
abbrev cX6_letters : ByteArray := prog_11_method_7_code
def yX6_letters : MethodName := ⟨RX6, "letters", "(I)Ljava/lang/String;"⟩
def dkwX6_letters_1 : List UInt8 := [28, 182, 0, 60, 176]
abbrev dktX6_letters_1 : List UInt8 := dkwX6_letters_1 ++ []
def dkwX6_letters_0 : List UInt8 := [27, 61, 42, 28, 182, 0, 52, 184, 0, 56, 153, 0, 9, 132, 2, 1, 167, 255, 242, 42, 180, 0, 15, 27]
abbrev dktX6_letters_0 : List UInt8 := dkwX6_letters_0 ++ dktX6_letters_1
theorem dksX6_letters_0 : cX6_letters.data.toList.drop 0 = dktX6_letters_0 := by decide +kernel
theorem dksX6_letters_1 : cX6_letters.data.toList.drop 24 = dktX6_letters_1 := dk_seg dksX6_letters_0 24 rfl rfl
theorem dX6_letters_0 : decode cX6_letters 0 = .ok (.iload_n 1, 1) := dk_27 (dk_at dksX6_letters_0 0 rfl rfl)
theorem dX6_letters_1 : decode cX6_letters 1 = .ok (.istore_n 2, 1) := dk_61 (dk_at dksX6_letters_0 1 rfl rfl)
theorem dX6_letters_2 : decode cX6_letters 2 = .ok (.aload_n 0, 1) := dk_42 (dk_at dksX6_letters_0 2 rfl rfl)
theorem dX6_letters_3 : decode cX6_letters 3 = .ok (.iload_n 2, 1) := dk_28 (dk_at dksX6_letters_0 3 rfl rfl)
theorem dX6_letters_4 : decode cX6_letters 4 = .ok (.invokevirtual 52, 3) := dk_182 0 52 (dk_at dksX6_letters_0 4 rfl rfl)
theorem dX6_letters_7 : decode cX6_letters 7 = .ok (.invokestatic 56, 3) := dk_184 0 56 (dk_at dksX6_letters_0 7 rfl rfl)
theorem dX6_letters_10 : decode cX6_letters 10 = .ok (.ifCond .eq 9, 3) := dk_153 0 9 (dk_at dksX6_letters_0 10 rfl rfl)
theorem dX6_letters_13 : decode cX6_letters 13 = .ok (.iinc 2 1, 3) := dk_132 2 1 (dk_at dksX6_letters_0 13 rfl rfl)
theorem dX6_letters_16 : decode cX6_letters 16 = .ok (.goto (-14), 3) := dk_167 255 242 (dk_at dksX6_letters_0 16 rfl rfl)
theorem dX6_letters_19 : decode cX6_letters 19 = .ok (.aload_n 0, 1) := dk_42 (dk_at dksX6_letters_0 19 rfl rfl)
theorem dX6_letters_20 : decode cX6_letters 20 = .ok (.getfield 15, 3) := dk_180 0 15 (dk_at dksX6_letters_0 20 rfl rfl)
theorem dX6_letters_23 : decode cX6_letters 23 = .ok (.iload_n 1, 1) := dk_27 (dk_at dksX6_letters_0 23 rfl rfl)
theorem dX6_letters_24 : decode cX6_letters 24 = .ok (.iload_n 2, 1) := dk_28 (dk_at dksX6_letters_1 0 rfl rfl)
theorem dX6_letters_25 : decode cX6_letters 25 = .ok (.invokevirtual 60, 3) := dk_182 0 60 (dk_at dksX6_letters_1 1 rfl rfl)
theorem dX6_letters_28 : decode cX6_letters 28 = .ok (.areturn, 1) := dk_176 (dk_at dksX6_letters_1 4 rfl rfl)
abbrev cX6_readReference : ByteArray := prog_11_method_9_code
def yX6_readReference : MethodName := ⟨RX6, "readReference", "()Ljava/lang/String;"⟩
def dkwX6_readReference_2 : List UInt8 := [167, 255, 211, 18, 71, 176]
abbrev dktX6_readReference_2 : List UInt8 := dkwX6_readReference_2 ++ []
def dkwX6_readReference_1 : List UInt8 := [27, 4, 96, 182, 0, 52, 184, 0, 56, 153, 0, 11, 42, 27, 4, 96, 182, 0, 67, 176, 132, 1, 1]
abbrev dktX6_readReference_1 : List UInt8 := dkwX6_readReference_1 ++ dktX6_readReference_2
def dkwX6_readReference_0 : List UInt8 := [3, 60, 27, 42, 180, 0, 15, 182, 0, 42, 162, 0, 40, 42, 27, 182, 0, 52, 16, 64, 160, 0, 24, 42]
abbrev dktX6_readReference_0 : List UInt8 := dkwX6_readReference_0 ++ dktX6_readReference_1
theorem dksX6_readReference_0 : cX6_readReference.data.toList.drop 0 = dktX6_readReference_0 := by decide +kernel
theorem dksX6_readReference_1 : cX6_readReference.data.toList.drop 24 = dktX6_readReference_1 := dk_seg dksX6_readReference_0 24 rfl rfl
theorem dksX6_readReference_2 : cX6_readReference.data.toList.drop 47 = dktX6_readReference_2 := dk_seg dksX6_readReference_1 23 rfl rfl
theorem dX6_readReference_0 : decode cX6_readReference 0 = .ok (.iconst 0, 1) := dk_3 (dk_at dksX6_readReference_0 0 rfl rfl)
theorem dX6_readReference_1 : decode cX6_readReference 1 = .ok (.istore_n 1, 1) := dk_60 (dk_at dksX6_readReference_0 1 rfl rfl)
theorem dX6_readReference_2 : decode cX6_readReference 2 = .ok (.iload_n 1, 1) := dk_27 (dk_at dksX6_readReference_0 2 rfl rfl)
theorem dX6_readReference_3 : decode cX6_readReference 3 = .ok (.aload_n 0, 1) := dk_42 (dk_at dksX6_readReference_0 3 rfl rfl)
theorem dX6_readReference_4 : decode cX6_readReference 4 = .ok (.getfield 15, 3) := dk_180 0 15 (dk_at dksX6_readReference_0 4 rfl rfl)
theorem dX6_readReference_7 : decode cX6_readReference 7 = .ok (.invokevirtual 42, 3) := dk_182 0 42 (dk_at dksX6_readReference_0 7 rfl rfl)
theorem dX6_readReference_10 : decode cX6_readReference 10 = .ok (.if_icmp .ge 40, 3) := dk_162 0 40 (dk_at dksX6_readReference_0 10 rfl rfl)
theorem dX6_readReference_13 : decode cX6_readReference 13 = .ok (.aload_n 0, 1) := dk_42 (dk_at dksX6_readReference_0 13 rfl rfl)
theorem dX6_readReference_14 : decode cX6_readReference 14 = .ok (.iload_n 1, 1) := dk_27 (dk_at dksX6_readReference_0 14 rfl rfl)
theorem dX6_readReference_15 : decode cX6_readReference 15 = .ok (.invokevirtual 52, 3) := dk_182 0 52 (dk_at dksX6_readReference_0 15 rfl rfl)
theorem dX6_readReference_18 : decode cX6_readReference 18 = .ok (.bipush 64, 2) := dk_16 64 (dk_at dksX6_readReference_0 18 rfl rfl)
theorem dX6_readReference_20 : decode cX6_readReference 20 = .ok (.if_icmp .ne 24, 3) := dk_160 0 24 (dk_at dksX6_readReference_0 20 rfl rfl)
theorem dX6_readReference_23 : decode cX6_readReference 23 = .ok (.aload_n 0, 1) := dk_42 (dk_at dksX6_readReference_0 23 rfl rfl)
theorem dX6_readReference_24 : decode cX6_readReference 24 = .ok (.iload_n 1, 1) := dk_27 (dk_at dksX6_readReference_1 0 rfl rfl)
theorem dX6_readReference_25 : decode cX6_readReference 25 = .ok (.iconst 1, 1) := dk_4 (dk_at dksX6_readReference_1 1 rfl rfl)
theorem dX6_readReference_26 : decode cX6_readReference 26 = .ok (.iadd, 1) := dk_96 (dk_at dksX6_readReference_1 2 rfl rfl)
theorem dX6_readReference_27 : decode cX6_readReference 27 = .ok (.invokevirtual 52, 3) := dk_182 0 52 (dk_at dksX6_readReference_1 3 rfl rfl)
theorem dX6_readReference_30 : decode cX6_readReference 30 = .ok (.invokestatic 56, 3) := dk_184 0 56 (dk_at dksX6_readReference_1 6 rfl rfl)
theorem dX6_readReference_33 : decode cX6_readReference 33 = .ok (.ifCond .eq 11, 3) := dk_153 0 11 (dk_at dksX6_readReference_1 9 rfl rfl)
theorem dX6_readReference_36 : decode cX6_readReference 36 = .ok (.aload_n 0, 1) := dk_42 (dk_at dksX6_readReference_1 12 rfl rfl)
theorem dX6_readReference_37 : decode cX6_readReference 37 = .ok (.iload_n 1, 1) := dk_27 (dk_at dksX6_readReference_1 13 rfl rfl)
theorem dX6_readReference_38 : decode cX6_readReference 38 = .ok (.iconst 1, 1) := dk_4 (dk_at dksX6_readReference_1 14 rfl rfl)
theorem dX6_readReference_39 : decode cX6_readReference 39 = .ok (.iadd, 1) := dk_96 (dk_at dksX6_readReference_1 15 rfl rfl)
theorem dX6_readReference_40 : decode cX6_readReference 40 = .ok (.invokevirtual 67, 3) := dk_182 0 67 (dk_at dksX6_readReference_1 16 rfl rfl)
theorem dX6_readReference_43 : decode cX6_readReference 43 = .ok (.areturn, 1) := dk_176 (dk_at dksX6_readReference_1 19 rfl rfl)
theorem dX6_readReference_44 : decode cX6_readReference 44 = .ok (.iinc 1 1, 3) := dk_132 1 1 (dk_at dksX6_readReference_1 20 rfl rfl)
theorem dX6_readReference_47 : decode cX6_readReference 47 = .ok (.goto (-45), 3) := dk_167 255 211 (dk_at dksX6_readReference_2 0 rfl rfl)
theorem dX6_readReference_50 : decode cX6_readReference 50 = .ok (.ldc 71, 2) := dk_18 71 (dk_at dksX6_readReference_2 3 rfl rfl)
theorem dX6_readReference_52 : decode cX6_readReference 52 = .ok (.areturn, 1) := dk_176 (dk_at dksX6_readReference_2 5 rfl rfl)
abbrev cX6_label : ByteArray := prog_11_method_10_code
def yX6_label : MethodName := ⟨RX6, "label", "()Ljava/lang/String;"⟩
theorem dX6_label_0 : decode cX6_label 0 = .ok (.aload_n 0, 1) := by decide +kernel
theorem dX6_label_1 : decode cX6_label 1 = .ok (.getfield 27, 3) := by decide +kernel
theorem dX6_label_4 : decode cX6_label 4 = .ok (.areturn, 1) := by decide +kernel
abbrev cX6_reference : ByteArray := prog_11_method_11_code
def yX6_reference : MethodName := ⟨RX6, "reference", "()Ljava/lang/String;"⟩
theorem dX6_reference_0 : decode cX6_reference 0 = .ok (.aload_n 0, 1) := by decide +kernel
theorem dX6_reference_1 : decode cX6_reference 1 = .ok (.getfield 33, 3) := by decide +kernel
theorem dX6_reference_4 : decode cX6_reference 4 = .ok (.areturn, 1) := by decide +kernel
abbrev cX6_has : ByteArray := prog_11_method_12_code
def yX6_has : MethodName := ⟨RX6, "has", "(Ljava/lang/String;)Z"⟩
def dkwX6_has_1 : List UInt8 := [182, 0, 73, 153, 0, 5, 4, 172, 132, 2, 1, 167, 255, 223, 3, 172]
abbrev dktX6_has_1 : List UInt8 := dkwX6_has_1 ++ []
def dkwX6_has_0 : List UInt8 := [3, 61, 28, 43, 182, 0, 42, 96, 42, 180, 0, 15, 182, 0, 42, 163, 0, 23, 42, 180, 0, 15, 43, 28]
abbrev dktX6_has_0 : List UInt8 := dkwX6_has_0 ++ dktX6_has_1
theorem dksX6_has_0 : cX6_has.data.toList.drop 0 = dktX6_has_0 := by decide +kernel
theorem dksX6_has_1 : cX6_has.data.toList.drop 24 = dktX6_has_1 := dk_seg dksX6_has_0 24 rfl rfl
theorem dX6_has_0 : decode cX6_has 0 = .ok (.iconst 0, 1) := dk_3 (dk_at dksX6_has_0 0 rfl rfl)
theorem dX6_has_1 : decode cX6_has 1 = .ok (.istore_n 2, 1) := dk_61 (dk_at dksX6_has_0 1 rfl rfl)
theorem dX6_has_2 : decode cX6_has 2 = .ok (.iload_n 2, 1) := dk_28 (dk_at dksX6_has_0 2 rfl rfl)
theorem dX6_has_3 : decode cX6_has 3 = .ok (.aload_n 1, 1) := dk_43 (dk_at dksX6_has_0 3 rfl rfl)
theorem dX6_has_4 : decode cX6_has 4 = .ok (.invokevirtual 42, 3) := dk_182 0 42 (dk_at dksX6_has_0 4 rfl rfl)
theorem dX6_has_7 : decode cX6_has 7 = .ok (.iadd, 1) := dk_96 (dk_at dksX6_has_0 7 rfl rfl)
theorem dX6_has_8 : decode cX6_has 8 = .ok (.aload_n 0, 1) := dk_42 (dk_at dksX6_has_0 8 rfl rfl)
theorem dX6_has_9 : decode cX6_has 9 = .ok (.getfield 15, 3) := dk_180 0 15 (dk_at dksX6_has_0 9 rfl rfl)
theorem dX6_has_12 : decode cX6_has 12 = .ok (.invokevirtual 42, 3) := dk_182 0 42 (dk_at dksX6_has_0 12 rfl rfl)
theorem dX6_has_15 : decode cX6_has 15 = .ok (.if_icmp .gt 23, 3) := dk_163 0 23 (dk_at dksX6_has_0 15 rfl rfl)
theorem dX6_has_18 : decode cX6_has 18 = .ok (.aload_n 0, 1) := dk_42 (dk_at dksX6_has_0 18 rfl rfl)
theorem dX6_has_19 : decode cX6_has 19 = .ok (.getfield 15, 3) := dk_180 0 15 (dk_at dksX6_has_0 19 rfl rfl)
theorem dX6_has_22 : decode cX6_has 22 = .ok (.aload_n 1, 1) := dk_43 (dk_at dksX6_has_0 22 rfl rfl)
theorem dX6_has_23 : decode cX6_has 23 = .ok (.iload_n 2, 1) := dk_28 (dk_at dksX6_has_0 23 rfl rfl)
theorem dX6_has_24 : decode cX6_has 24 = .ok (.invokevirtual 73, 3) := dk_182 0 73 (dk_at dksX6_has_1 0 rfl rfl)
theorem dX6_has_27 : decode cX6_has 27 = .ok (.ifCond .eq 5, 3) := dk_153 0 5 (dk_at dksX6_has_1 3 rfl rfl)
theorem dX6_has_30 : decode cX6_has 30 = .ok (.iconst 1, 1) := dk_4 (dk_at dksX6_has_1 6 rfl rfl)
theorem dX6_has_31 : decode cX6_has 31 = .ok (.ireturn, 1) := dk_172 (dk_at dksX6_has_1 7 rfl rfl)
theorem dX6_has_32 : decode cX6_has 32 = .ok (.iinc 2 1, 3) := dk_132 2 1 (dk_at dksX6_has_1 8 rfl rfl)
theorem dX6_has_35 : decode cX6_has 35 = .ok (.goto (-33), 3) := dk_167 255 223 (dk_at dksX6_has_1 11 rfl rfl)
theorem dX6_has_38 : decode cX6_has 38 = .ok (.iconst 0, 1) := dk_3 (dk_at dksX6_has_1 14 rfl rfl)
theorem dX6_has_39 : decode cX6_has 39 = .ok (.ireturn, 1) := dk_172 (dk_at dksX6_has_1 15 rfl rfl)
abbrev cX6_with : ByteArray := prog_11_method_3_code
def yX6_with : MethodName := ⟨RX6, "with", "(Ljava/lang/String;)LFoldLister$Line;"⟩
def dkwX6_with_0 : List UInt8 := [187, 0, 10, 89, 42, 180, 0, 9, 43, 42, 180, 0, 19, 183, 0, 36, 176]
abbrev dktX6_with_0 : List UInt8 := dkwX6_with_0 ++ []
theorem dksX6_with_0 : cX6_with.data.toList.drop 0 = dktX6_with_0 := by decide +kernel
theorem dX6_with_0 : decode cX6_with 0 = .ok (.new 10, 3) := dk_187 0 10 (dk_at dksX6_with_0 0 rfl rfl)
theorem dX6_with_3 : decode cX6_with 3 = .ok (.dup, 1) := dk_89 (dk_at dksX6_with_0 3 rfl rfl)
theorem dX6_with_4 : decode cX6_with 4 = .ok (.aload_n 0, 1) := dk_42 (dk_at dksX6_with_0 4 rfl rfl)
theorem dX6_with_5 : decode cX6_with 5 = .ok (.getfield 9, 3) := dk_180 0 9 (dk_at dksX6_with_0 5 rfl rfl)
theorem dX6_with_8 : decode cX6_with 8 = .ok (.aload_n 1, 1) := dk_43 (dk_at dksX6_with_0 8 rfl rfl)
theorem dX6_with_9 : decode cX6_with 9 = .ok (.aload_n 0, 1) := dk_42 (dk_at dksX6_with_0 9 rfl rfl)
theorem dX6_with_10 : decode cX6_with 10 = .ok (.getfield 19, 3) := dk_180 0 19 (dk_at dksX6_with_0 10 rfl rfl)
theorem dX6_with_13 : decode cX6_with 13 = .ok (.invokespecial 36, 3) := dk_183 0 36 (dk_at dksX6_with_0 13 rfl rfl)
theorem dX6_with_16 : decode cX6_with 16 = .ok (.areturn, 1) := dk_176 (dk_at dksX6_with_0 16 rfl rfl)
theorem q133 : (Jvm.Cond.initialized "FoldLister$Line") ∈ lw_all := lw_g (lw_at lw_m1 30 rfl) rfl
theorem q779 : (Jvm.Cond.instanceMethod ({ cls := "FoldLister$Line", name := "byteAt", desc := "(I)I" } : Jvm.MethodName)) ∈ lw_all := lw_g (lw_at lw_m3 196 rfl) rfl
theorem q780 : (Jvm.Cond.selects "FoldLister$Line" ({ cls := "FoldLister$Line", name := "byteAt", desc := "(I)I" } : Jvm.MethodName) ({ cls := "FoldLister$Line", name := "byteAt", desc := "(I)I" } : Jvm.MethodName)) ∈ lw_all := lw_g (lw_at lw_m3 197 rfl) rfl
theorem q781 : (Jvm.Cond.code ({ cls := "FoldLister$Line", name := "byteAt", desc := "(I)I" } : Jvm.MethodName) prog_11_method_5_code (2 : Nat) (Option.some Jvm.ClassFile.FieldType.int)) ∈ lw_all := lw_g (lw_at lw_m3 198 rfl) rfl
theorem q782 : (Jvm.Cond.methodLink "FoldLister$Line" (42 : Nat) ({ cls := "java/lang/String", name := "length", desc := "()I" } : Jvm.MethodName)) ∈ lw_all := lw_g (lw_at lw_m3 199 rfl) rfl
theorem q783 : (Jvm.Cond.methodLink "FoldLister$Line" (48 : Nat) ({ cls := "java/lang/String", name := "charAt", desc := "(I)C" } : Jvm.MethodName)) ∈ lw_all := lw_g (lw_at lw_m3 200 rfl) rfl
theorem q997 : (Jvm.Cond.selects "FoldLister$Line" ({ cls := "java/lang/Object", name := "getClass", desc := "()Ljava/lang/Class;" } : Jvm.MethodName) ({ cls := "java/lang/Object", name := "getClass", desc := "()Ljava/lang/Class;" } : Jvm.MethodName)) ∈ lw_all := lw_g (lw_at lw_m4 174 rfl) rfl
theorem q1783 : (Jvm.Cond.instanceMethod ({ cls := "FoldLister$Line", name := "closed", desc := "(Z)LFoldLister$Line;" } : Jvm.MethodName)) ∈ lw_all := lw_g (lw_at lw_m8 0 rfl) rfl
theorem q1784 : (Jvm.Cond.selects "FoldLister$Line" ({ cls := "FoldLister$Line", name := "closed", desc := "(Z)LFoldLister$Line;" } : Jvm.MethodName) ({ cls := "FoldLister$Line", name := "closed", desc := "(Z)LFoldLister$Line;" } : Jvm.MethodName)) ∈ lw_all := lw_g (lw_at lw_m8 1 rfl) rfl
theorem q1785 : (Jvm.Cond.code ({ cls := "FoldLister$Line", name := "closed", desc := "(Z)LFoldLister$Line;" } : Jvm.MethodName) prog_11_method_4_code (2 : Nat) (Option.some (Jvm.ClassFile.FieldType.object "FoldLister$Line"))) ∈ lw_all := lw_g (lw_at lw_m8 2 rfl) rfl
theorem q1786 : (Jvm.Cond.classLink "FoldLister$Line" (10 : Nat) "FoldLister$Line") ∈ lw_all := lw_g (lw_at lw_m8 3 rfl) rfl
theorem q1787 : (Jvm.Cond.instantiable "FoldLister$Line" (5 : Nat)) ∈ lw_all := lw_g (lw_at lw_m8 4 rfl) rfl
theorem q1788 : (Jvm.Cond.methodLink "FoldLister$Line" (39 : Nat) ({ cls := "FoldLister$Line", name := "<init>", desc := "(LFoldLister$Line;Z)V" } : Jvm.MethodName)) ∈ lw_all := lw_g (lw_at lw_m8 5 rfl) rfl
theorem q1789 : (Jvm.Cond.instanceMethod ({ cls := "FoldLister$Line", name := "<init>", desc := "(LFoldLister$Line;Z)V" } : Jvm.MethodName)) ∈ lw_all := lw_g (lw_at lw_m8 6 rfl) rfl
theorem q1790 : (Jvm.Cond.code ({ cls := "FoldLister$Line", name := "<init>", desc := "(LFoldLister$Line;Z)V" } : Jvm.MethodName) prog_11_method_2_code (3 : Nat) (Option.none : Option Jvm.ClassFile.FieldType)) ∈ lw_all := lw_g (lw_at lw_m8 7 rfl) rfl
theorem q1791 : (Jvm.Cond.methodLink "FoldLister$Line" (3 : Nat) ({ cls := "java/lang/Object", name := "<init>", desc := "()V" } : Jvm.MethodName)) ∈ lw_all := lw_g (lw_at lw_m8 8 rfl) rfl
theorem q1792 : (Jvm.Cond.fieldLink "FoldLister$Line" (9 : Nat) "FoldLister$Line" "key" "I") ∈ lw_all := lw_g (lw_at lw_m8 9 rfl) rfl
theorem q1795 : (Jvm.Cond.fieldLink "FoldLister$Line" (15 : Nat) "FoldLister$Line" "text" "Ljava/lang/String;") ∈ lw_all := lw_g (lw_at lw_m8 12 rfl) rfl
theorem q1797 : (Jvm.Cond.fieldLink "FoldLister$Line" (27 : Nat) "FoldLister$Line" "label" "Ljava/lang/String;") ∈ lw_all := lw_g (lw_at lw_m8 14 rfl) rfl
theorem q1798 : (Jvm.Cond.fieldLink "FoldLister$Line" (33 : Nat) "FoldLister$Line" "reference" "Ljava/lang/String;") ∈ lw_all := lw_g (lw_at lw_m8 15 rfl) rfl
theorem q1799 : (Jvm.Cond.fieldLink "FoldLister$Line" (19 : Nat) "FoldLister$Line" "closed" "Z") ∈ lw_all := lw_g (lw_at lw_m8 16 rfl) rfl
theorem q1806 : (Jvm.Cond.laysFinal "FoldLister$Line" "FoldLister$Line" "key" "I") ∈ lw_all := lw_g (lw_at lw_m8 23 rfl) rfl
theorem q1807 : (Jvm.Cond.soleField "FoldLister$Line" "key") ∈ lw_all := lw_g (lw_at lw_m8 24 rfl) rfl
theorem q1808 : (Jvm.Cond.laysFinal "FoldLister$Line" "FoldLister$Line" "text" "Ljava/lang/String;") ∈ lw_all := lw_g (lw_at lw_m8 25 rfl) rfl
theorem q1809 : (Jvm.Cond.soleField "FoldLister$Line" "text") ∈ lw_all := lw_g (lw_at lw_m8 26 rfl) rfl
theorem q1810 : (Jvm.Cond.laysFinal "FoldLister$Line" "FoldLister$Line" "label" "Ljava/lang/String;") ∈ lw_all := lw_g (lw_at lw_m8 27 rfl) rfl
theorem q1811 : (Jvm.Cond.soleField "FoldLister$Line" "label") ∈ lw_all := lw_g (lw_at lw_m8 28 rfl) rfl
theorem q1812 : (Jvm.Cond.laysFinal "FoldLister$Line" "FoldLister$Line" "reference" "Ljava/lang/String;") ∈ lw_all := lw_g (lw_at lw_m8 29 rfl) rfl
theorem q1813 : (Jvm.Cond.soleField "FoldLister$Line" "reference") ∈ lw_all := lw_g (lw_at lw_m8 30 rfl) rfl
theorem q1814 : (Jvm.Cond.laysFinal "FoldLister$Line" "FoldLister$Line" "closed" "Z") ∈ lw_all := lw_g (lw_at lw_m8 31 rfl) rfl
theorem q1815 : (Jvm.Cond.soleField "FoldLister$Line" "closed") ∈ lw_all := lw_g (lw_at lw_m8 32 rfl) rfl
theorem q1816 : (Jvm.Cond.superclass "FoldLister$Line" "java/lang/Object") ∈ lw_all := lw_g (lw_at lw_m8 33 rfl) rfl
theorem q1942 : (Jvm.Cond.instanceMethod ({ cls := "FoldLister$Line", name := "<init>", desc := "(ILjava/lang/String;Z)V" } : Jvm.MethodName)) ∈ lw_all := lw_g (lw_at lw_m8 159 rfl) rfl
theorem q1943 : (Jvm.Cond.code ({ cls := "FoldLister$Line", name := "<init>", desc := "(ILjava/lang/String;Z)V" } : Jvm.MethodName) prog_11_method_1_code (4 : Nat) (Option.none : Option Jvm.ClassFile.FieldType)) ∈ lw_all := lw_g (lw_at lw_m8 160 rfl) rfl
theorem q1944 : (Jvm.Cond.methodLink "FoldLister$Line" (23 : Nat) ({ cls := "FoldLister$Line", name := "readLabel", desc := "()Ljava/lang/String;" } : Jvm.MethodName)) ∈ lw_all := lw_g (lw_at lw_m8 161 rfl) rfl
theorem q1945 : (Jvm.Cond.privateMethod ({ cls := "FoldLister$Line", name := "readLabel", desc := "()Ljava/lang/String;" } : Jvm.MethodName)) ∈ lw_tbl := lw_at lw_m8 162 rfl
theorem q1946 : (Jvm.Cond.instanceMethod ({ cls := "FoldLister$Line", name := "readLabel", desc := "()Ljava/lang/String;" } : Jvm.MethodName)) ∈ lw_all := lw_g (lw_at lw_m8 163 rfl) rfl
theorem q1947 : (Jvm.Cond.code ({ cls := "FoldLister$Line", name := "readLabel", desc := "()Ljava/lang/String;" } : Jvm.MethodName) prog_11_method_8_code (2 : Nat) (Option.some (Jvm.ClassFile.FieldType.object "java/lang/String"))) ∈ lw_all := lw_g (lw_at lw_m8 164 rfl) rfl
theorem q1948 : (Jvm.Cond.methodLink "FoldLister$Line" (64 : Nat) ({ cls := "FoldLister$Line", name := "blanks", desc := "()I" } : Jvm.MethodName)) ∈ lw_all := lw_g (lw_at lw_m8 165 rfl) rfl
theorem q1949 : (Jvm.Cond.instanceMethod ({ cls := "FoldLister$Line", name := "blanks", desc := "()I" } : Jvm.MethodName)) ∈ lw_all := lw_g (lw_at lw_m8 166 rfl) rfl
theorem q1950 : (Jvm.Cond.selects "FoldLister$Line" ({ cls := "FoldLister$Line", name := "blanks", desc := "()I" } : Jvm.MethodName) ({ cls := "FoldLister$Line", name := "blanks", desc := "()I" } : Jvm.MethodName)) ∈ lw_all := lw_g (lw_at lw_m8 167 rfl) rfl
theorem q1951 : (Jvm.Cond.code ({ cls := "FoldLister$Line", name := "blanks", desc := "()I" } : Jvm.MethodName) prog_11_method_6_code (2 : Nat) (Option.some Jvm.ClassFile.FieldType.int)) ∈ lw_all := lw_g (lw_at lw_m8 168 rfl) rfl
theorem q1952 : (Jvm.Cond.methodLink "FoldLister$Line" (52 : Nat) ({ cls := "FoldLister$Line", name := "byteAt", desc := "(I)I" } : Jvm.MethodName)) ∈ lw_all := lw_g (lw_at lw_m8 169 rfl) rfl
theorem q1953 : (Jvm.Cond.methodLink "FoldLister$Line" (67 : Nat) ({ cls := "FoldLister$Line", name := "letters", desc := "(I)Ljava/lang/String;" } : Jvm.MethodName)) ∈ lw_all := lw_g (lw_at lw_m8 170 rfl) rfl
theorem q1954 : (Jvm.Cond.privateMethod ({ cls := "FoldLister$Line", name := "letters", desc := "(I)Ljava/lang/String;" } : Jvm.MethodName)) ∈ lw_tbl := lw_at lw_m8 171 rfl
theorem q1955 : (Jvm.Cond.instanceMethod ({ cls := "FoldLister$Line", name := "letters", desc := "(I)Ljava/lang/String;" } : Jvm.MethodName)) ∈ lw_all := lw_g (lw_at lw_m8 172 rfl) rfl
theorem q1956 : (Jvm.Cond.code ({ cls := "FoldLister$Line", name := "letters", desc := "(I)Ljava/lang/String;" } : Jvm.MethodName) prog_11_method_7_code (3 : Nat) (Option.some (Jvm.ClassFile.FieldType.object "java/lang/String"))) ∈ lw_all := lw_g (lw_at lw_m8 173 rfl) rfl
theorem q1957 : (Jvm.Cond.methodLinkNest "FoldLister$Line" (56 : Nat) ({ cls := "FoldLister", name := "isLetter", desc := "(I)Z" } : Jvm.MethodName) "FoldLister") ∈ lw_tbl := lw_at lw_m8 174 rfl
theorem q1960 : (Jvm.Cond.methodLink "FoldLister$Line" (60 : Nat) ({ cls := "java/lang/String", name := "substring", desc := "(II)Ljava/lang/String;" } : Jvm.MethodName)) ∈ lw_all := lw_g (lw_at lw_m8 177 rfl) rfl
theorem q1984 : (Jvm.Cond.stringRef "FoldLister$Line" (71 : Nat) "") ∈ lw_tbl := lw_at lw_m8 201 rfl
theorem q1985 : (Jvm.Cond.methodLink "FoldLister$Line" (30 : Nat) ({ cls := "FoldLister$Line", name := "readReference", desc := "()Ljava/lang/String;" } : Jvm.MethodName)) ∈ lw_all := lw_g (lw_at lw_m8 202 rfl) rfl
theorem q1986 : (Jvm.Cond.privateMethod ({ cls := "FoldLister$Line", name := "readReference", desc := "()Ljava/lang/String;" } : Jvm.MethodName)) ∈ lw_tbl := lw_at lw_m8 203 rfl
theorem q1987 : (Jvm.Cond.instanceMethod ({ cls := "FoldLister$Line", name := "readReference", desc := "()Ljava/lang/String;" } : Jvm.MethodName)) ∈ lw_all := lw_g (lw_at lw_m8 204 rfl) rfl
theorem q1988 : (Jvm.Cond.code ({ cls := "FoldLister$Line", name := "readReference", desc := "()Ljava/lang/String;" } : Jvm.MethodName) prog_11_method_9_code (2 : Nat) (Option.some (Jvm.ClassFile.FieldType.object "java/lang/String"))) ∈ lw_all := lw_g (lw_at lw_m8 205 rfl) rfl
theorem q2076 : (Jvm.Cond.instanceMethod ({ cls := "FoldLister$Line", name := "label", desc := "()Ljava/lang/String;" } : Jvm.MethodName)) ∈ lw_all := lw_g (lw_at lw_m9 53 rfl) rfl
theorem q2077 : (Jvm.Cond.selects "FoldLister$Line" ({ cls := "FoldLister$Line", name := "label", desc := "()Ljava/lang/String;" } : Jvm.MethodName) ({ cls := "FoldLister$Line", name := "label", desc := "()Ljava/lang/String;" } : Jvm.MethodName)) ∈ lw_all := lw_g (lw_at lw_m9 54 rfl) rfl
theorem q2078 : (Jvm.Cond.code ({ cls := "FoldLister$Line", name := "label", desc := "()Ljava/lang/String;" } : Jvm.MethodName) prog_11_method_10_code (1 : Nat) (Option.some (Jvm.ClassFile.FieldType.object "java/lang/String"))) ∈ lw_all := lw_g (lw_at lw_m9 55 rfl) rfl
theorem q2091 : (Jvm.Cond.instanceMethod ({ cls := "FoldLister$Line", name := "reference", desc := "()Ljava/lang/String;" } : Jvm.MethodName)) ∈ lw_all := lw_g (lw_at lw_m9 68 rfl) rfl
theorem q2092 : (Jvm.Cond.selects "FoldLister$Line" ({ cls := "FoldLister$Line", name := "reference", desc := "()Ljava/lang/String;" } : Jvm.MethodName) ({ cls := "FoldLister$Line", name := "reference", desc := "()Ljava/lang/String;" } : Jvm.MethodName)) ∈ lw_all := lw_g (lw_at lw_m9 69 rfl) rfl
theorem q2093 : (Jvm.Cond.code ({ cls := "FoldLister$Line", name := "reference", desc := "()Ljava/lang/String;" } : Jvm.MethodName) prog_11_method_11_code (1 : Nat) (Option.some (Jvm.ClassFile.FieldType.object "java/lang/String"))) ∈ lw_all := lw_g (lw_at lw_m9 70 rfl) rfl
theorem q2259 : (Jvm.Cond.instanceMethod ({ cls := "FoldLister$Line", name := "has", desc := "(Ljava/lang/String;)Z" } : Jvm.MethodName)) ∈ lw_all := lw_g (lw_at lw_m9 236 rfl) rfl
theorem q2260 : (Jvm.Cond.selects "FoldLister$Line" ({ cls := "FoldLister$Line", name := "has", desc := "(Ljava/lang/String;)Z" } : Jvm.MethodName) ({ cls := "FoldLister$Line", name := "has", desc := "(Ljava/lang/String;)Z" } : Jvm.MethodName)) ∈ lw_all := lw_g (lw_at lw_m9 237 rfl) rfl
theorem q2261 : (Jvm.Cond.code ({ cls := "FoldLister$Line", name := "has", desc := "(Ljava/lang/String;)Z" } : Jvm.MethodName) prog_11_method_12_code (3 : Nat) (Option.some Jvm.ClassFile.FieldType.boolean)) ∈ lw_all := lw_g (lw_at lw_m9 238 rfl) rfl
theorem q2262 : (Jvm.Cond.methodLink "FoldLister$Line" (73 : Nat) ({ cls := "java/lang/String", name := "startsWith", desc := "(Ljava/lang/String;I)Z" } : Jvm.MethodName)) ∈ lw_all := lw_g (lw_at lw_m9 239 rfl) rfl
theorem q2619 : (Jvm.Cond.instanceMethod ({ cls := "FoldLister$Line", name := "with", desc := "(Ljava/lang/String;)LFoldLister$Line;" } : Jvm.MethodName)) ∈ lw_all := lw_g (lw_at lw_m11 116 rfl) rfl
theorem q2620 : (Jvm.Cond.selects "FoldLister$Line" ({ cls := "FoldLister$Line", name := "with", desc := "(Ljava/lang/String;)LFoldLister$Line;" } : Jvm.MethodName) ({ cls := "FoldLister$Line", name := "with", desc := "(Ljava/lang/String;)LFoldLister$Line;" } : Jvm.MethodName)) ∈ lw_all := lw_g (lw_at lw_m11 117 rfl) rfl
theorem q2621 : (Jvm.Cond.code ({ cls := "FoldLister$Line", name := "with", desc := "(Ljava/lang/String;)LFoldLister$Line;" } : Jvm.MethodName) prog_11_method_3_code (2 : Nat) (Option.some (Jvm.ClassFile.FieldType.object "FoldLister$Line"))) ∈ lw_all := lw_g (lw_at lw_m11 118 rfl) rfl
theorem q2622 : (Jvm.Cond.methodLink "FoldLister$Line" (36 : Nat) ({ cls := "FoldLister$Line", name := "<init>", desc := "(ILjava/lang/String;Z)V" } : Jvm.MethodName)) ∈ lw_all := lw_g (lw_at lw_m11 119 rfl) rfl
theorem q3618 : (Jvm.Cond.castable "FoldLister$Line" "java/lang/Object") ∈ lw_tbl := lw_at lw_m15 155 rfl
theorem in_X6 : ∀ w ∈ wsX60, w ∈ lw_all := lw_in wsX60 [1806, 1808, 1810, 1812, 1814] (by decide +kernel) (by decide +kernel)
/-! FoldLister$Page$Layout -/
set_option maxRecDepth 100000
def RX7 : String := "FoldLister$Page$Layout"
def TX7 : u_T := fun k => match k with
  | 0 => ("FoldLister$Page$Layout", "brackets", "Ljava/util/List;", true)
  | 1 => ("FoldLister$Page$Layout", "regions", "Ljava/util/List;", true)
  | 2 => ("FoldLister$Page$Layout", "depths", "[I", true)
  | 3 => ("FoldLister$Page$Layout", "hidden", "Ljava/util/BitSet;", true)
  | _ => ("FoldLister$Page$Layout", "this$0", "LFoldLister$Page;", true)
def tyX7 : Nat → FieldType := fun k => match k with
  | 0 => .object "java/util/List"
  | 1 => .object "java/util/List"
  | 2 => .array .int
  | 3 => .object "java/util/BitSet"
  | _ => .object "FoldLister$Page"
abbrev wsX70 : List Cond := u_ws RX7 TX7 5
theorem nmX7 : ∀ a, a < 5 → ∀ b, b < 5 → a ≠ b → (TX7 a).2.1 ≠ (TX7 b).2.1 := by decide +kernel
theorem tyX7_ok : ∀ k, k < 5 → parseFieldDescriptor (TX7 k).2.2.1 = some (tyX7 k) := by decide +kernel
abbrev cX7_init : ByteArray := prog_14_method_1_code
def yX7_init : MethodName := ⟨RX7, "<init>", "(LFoldLister$Page;)V"⟩
def dkwX7_init_13 : List UInt8 := [167, 255, 113, 42, 42, 187, 0, 111, 89, 42, 43, 183, 0, 113, 182, 0, 116, 181, 0, 120, 177]
abbrev dktX7_init_13 : List UInt8 := dkwX7_init_13 ++ []
def dkwX7_init_12 : List UInt8 := [182, 0, 108, 162, 0, 20, 42, 180, 0, 31, 21, 5, 92, 46, 4, 96, 79, 132, 5, 1, 167, 255, 229]
abbrev dktX7_init_12 : List UInt8 := dkwX7_init_12 ++ dktX7_init_13
def dkwX7_init_11 : List UInt8 := [182, 0, 102, 25, 4, 180, 0, 98, 182, 0, 105, 4, 96, 54, 5, 21, 5, 25, 4, 180, 0, 98]
abbrev dktX7_init_11 : List UInt8 := dkwX7_init_11 ++ dktX7_init_12
def dkwX7_init_10 : List UInt8 := [181, 0, 98, 42, 180, 0, 22, 25, 4, 180, 0, 98, 185, 0, 54, 2, 0, 87, 25, 4, 180, 0, 98]
abbrev dktX7_init_10 : List UInt8 := dkwX7_init_10 ++ dktX7_init_11
def dkwX7_init_9 : List UInt8 := [167, 255, 204, 25, 4, 187, 0, 92, 89, 42, 180, 0, 22, 185, 0, 94, 1, 0, 25, 4, 183, 0, 95]
abbrev dktX7_init_9 : List UInt8 := dkwX7_init_9 ++ dktX7_init_10
def dkwX7_init_8 : List UInt8 := [182, 0, 85, 154, 255, 223, 25, 4, 180, 0, 81, 180, 0, 88, 25, 4, 180, 0, 88, 160, 0, 6]
abbrev dktX7_init_8 : List UInt8 := dkwX7_init_8 ++ dktX7_init_9
def dkwX7_init_7 : List UInt8 := [153, 0, 140, 45, 185, 0, 48, 1, 0, 192, 0, 52, 58, 4, 25, 4, 180, 0, 60, 153, 255, 231, 25, 4]
abbrev dktX7_init_7 : List UInt8 := dkwX7_init_7 ++ dktX7_init_8
def dkwX7_init_6 : List UInt8 := [25, 4, 181, 0, 81, 167, 255, 166, 42, 180, 0, 18, 185, 0, 84, 1, 0, 78, 45, 185, 0, 42, 1, 0]
abbrev dktX7_init_6 : List UInt8 := dkwX7_init_6 ++ dktX7_init_7
def dkwX7_init_5 : List UInt8 := [44, 182, 0, 75, 154, 0, 25, 25, 4, 44, 182, 0, 78, 192, 0, 52, 181, 0, 81, 25, 4, 180, 0, 81]
abbrev dktX7_init_5 : List UInt8 := dkwX7_init_5 ++ dktX7_init_6
def dkwX7_init_4 : List UInt8 := [153, 0, 24, 25, 4, 44, 182, 0, 64, 192, 0, 52, 181, 0, 67, 44, 25, 4, 182, 0, 71, 167, 0, 32]
abbrev dktX7_init_4 : List UInt8 := dkwX7_init_4 ++ dktX7_init_5
def dkwX7_init_3 : List UInt8 := [192, 0, 52, 58, 4, 42, 180, 0, 18, 25, 4, 185, 0, 54, 2, 0, 87, 25, 4, 180, 0, 60]
abbrev dktX7_init_3 : List UInt8 := dkwX7_init_3 ++ dktX7_init_4
def dkwX7_init_2 : List UInt8 := [183, 0, 37, 77, 43, 182, 0, 38, 78, 45, 185, 0, 42, 1, 0, 153, 0, 87, 45, 185, 0, 48, 1, 0]
abbrev dktX7_init_2 : List UInt8 := dkwX7_init_2 ++ dktX7_init_3
def dkwX7_init_1 : List UInt8 := [89, 183, 0, 17, 181, 0, 22, 42, 42, 180, 0, 3, 182, 0, 25, 188, 10, 181, 0, 31, 187, 0, 35, 89]
abbrev dktX7_init_1 : List UInt8 := dkwX7_init_1 ++ dktX7_init_2
def dkwX7_init_0 : List UInt8 := [42, 43, 181, 0, 3, 42, 183, 0, 9, 42, 187, 0, 15, 89, 183, 0, 17, 181, 0, 18, 42, 187, 0, 15]
abbrev dktX7_init_0 : List UInt8 := dkwX7_init_0 ++ dktX7_init_1
theorem dksX7_init_0 : cX7_init.data.toList.drop 0 = dktX7_init_0 := by decide +kernel
theorem dksX7_init_1 : cX7_init.data.toList.drop 24 = dktX7_init_1 := dk_seg dksX7_init_0 24 rfl rfl
theorem dksX7_init_2 : cX7_init.data.toList.drop 48 = dktX7_init_2 := dk_seg dksX7_init_1 24 rfl rfl
theorem dksX7_init_3 : cX7_init.data.toList.drop 72 = dktX7_init_3 := dk_seg dksX7_init_2 24 rfl rfl
theorem dksX7_init_4 : cX7_init.data.toList.drop 94 = dktX7_init_4 := dk_seg dksX7_init_3 22 rfl rfl
theorem dksX7_init_5 : cX7_init.data.toList.drop 118 = dktX7_init_5 := dk_seg dksX7_init_4 24 rfl rfl
theorem dksX7_init_6 : cX7_init.data.toList.drop 142 = dktX7_init_6 := dk_seg dksX7_init_5 24 rfl rfl
theorem dksX7_init_7 : cX7_init.data.toList.drop 166 = dktX7_init_7 := dk_seg dksX7_init_6 24 rfl rfl
theorem dksX7_init_8 : cX7_init.data.toList.drop 190 = dktX7_init_8 := dk_seg dksX7_init_7 24 rfl rfl
theorem dksX7_init_9 : cX7_init.data.toList.drop 212 = dktX7_init_9 := dk_seg dksX7_init_8 22 rfl rfl
theorem dksX7_init_10 : cX7_init.data.toList.drop 235 = dktX7_init_10 := dk_seg dksX7_init_9 23 rfl rfl
theorem dksX7_init_11 : cX7_init.data.toList.drop 258 = dktX7_init_11 := dk_seg dksX7_init_10 23 rfl rfl
theorem dksX7_init_12 : cX7_init.data.toList.drop 280 = dktX7_init_12 := dk_seg dksX7_init_11 22 rfl rfl
theorem dksX7_init_13 : cX7_init.data.toList.drop 303 = dktX7_init_13 := dk_seg dksX7_init_12 23 rfl rfl
theorem dX7_init_0 : decode cX7_init 0 = .ok (.aload_n 0, 1) := dk_42 (dk_at dksX7_init_0 0 rfl rfl)
theorem dX7_init_1 : decode cX7_init 1 = .ok (.aload_n 1, 1) := dk_43 (dk_at dksX7_init_0 1 rfl rfl)
theorem dX7_init_2 : decode cX7_init 2 = .ok (.putfield 3, 3) := dk_181 0 3 (dk_at dksX7_init_0 2 rfl rfl)
theorem dX7_init_5 : decode cX7_init 5 = .ok (.aload_n 0, 1) := dk_42 (dk_at dksX7_init_0 5 rfl rfl)
theorem dX7_init_6 : decode cX7_init 6 = .ok (.invokespecial 9, 3) := dk_183 0 9 (dk_at dksX7_init_0 6 rfl rfl)
theorem dX7_init_9 : decode cX7_init 9 = .ok (.aload_n 0, 1) := dk_42 (dk_at dksX7_init_0 9 rfl rfl)
theorem dX7_init_10 : decode cX7_init 10 = .ok (.new 15, 3) := dk_187 0 15 (dk_at dksX7_init_0 10 rfl rfl)
theorem dX7_init_13 : decode cX7_init 13 = .ok (.dup, 1) := dk_89 (dk_at dksX7_init_0 13 rfl rfl)
theorem dX7_init_14 : decode cX7_init 14 = .ok (.invokespecial 17, 3) := dk_183 0 17 (dk_at dksX7_init_0 14 rfl rfl)
theorem dX7_init_17 : decode cX7_init 17 = .ok (.putfield 18, 3) := dk_181 0 18 (dk_at dksX7_init_0 17 rfl rfl)
theorem dX7_init_20 : decode cX7_init 20 = .ok (.aload_n 0, 1) := dk_42 (dk_at dksX7_init_0 20 rfl rfl)
theorem dX7_init_21 : decode cX7_init 21 = .ok (.new 15, 3) := dk_187 0 15 (dk_at dksX7_init_0 21 rfl rfl)
theorem dX7_init_24 : decode cX7_init 24 = .ok (.dup, 1) := dk_89 (dk_at dksX7_init_1 0 rfl rfl)
theorem dX7_init_25 : decode cX7_init 25 = .ok (.invokespecial 17, 3) := dk_183 0 17 (dk_at dksX7_init_1 1 rfl rfl)
theorem dX7_init_28 : decode cX7_init 28 = .ok (.putfield 22, 3) := dk_181 0 22 (dk_at dksX7_init_1 4 rfl rfl)
theorem dX7_init_31 : decode cX7_init 31 = .ok (.aload_n 0, 1) := dk_42 (dk_at dksX7_init_1 7 rfl rfl)
theorem dX7_init_32 : decode cX7_init 32 = .ok (.aload_n 0, 1) := dk_42 (dk_at dksX7_init_1 8 rfl rfl)
theorem dX7_init_33 : decode cX7_init 33 = .ok (.getfield 3, 3) := dk_180 0 3 (dk_at dksX7_init_1 9 rfl rfl)
theorem dX7_init_36 : decode cX7_init 36 = .ok (.invokevirtual 25, 3) := dk_182 0 25 (dk_at dksX7_init_1 12 rfl rfl)
theorem dX7_init_39 : decode cX7_init 39 = .ok (.newarray .int, 2) := dk_188_10 (dk_at dksX7_init_1 15 rfl rfl)
theorem dX7_init_41 : decode cX7_init 41 = .ok (.putfield 31, 3) := dk_181 0 31 (dk_at dksX7_init_1 17 rfl rfl)
theorem dX7_init_44 : decode cX7_init 44 = .ok (.new 35, 3) := dk_187 0 35 (dk_at dksX7_init_1 20 rfl rfl)
theorem dX7_init_47 : decode cX7_init 47 = .ok (.dup, 1) := dk_89 (dk_at dksX7_init_1 23 rfl rfl)
theorem dX7_init_48 : decode cX7_init 48 = .ok (.invokespecial 37, 3) := dk_183 0 37 (dk_at dksX7_init_2 0 rfl rfl)
theorem dX7_init_51 : decode cX7_init 51 = .ok (.astore_n 2, 1) := dk_77 (dk_at dksX7_init_2 3 rfl rfl)
theorem dX7_init_52 : decode cX7_init 52 = .ok (.aload_n 1, 1) := dk_43 (dk_at dksX7_init_2 4 rfl rfl)
theorem dX7_init_53 : decode cX7_init 53 = .ok (.invokevirtual 38, 3) := dk_182 0 38 (dk_at dksX7_init_2 5 rfl rfl)
theorem dX7_init_56 : decode cX7_init 56 = .ok (.astore_n 3, 1) := dk_78 (dk_at dksX7_init_2 8 rfl rfl)
theorem dX7_init_57 : decode cX7_init 57 = .ok (.aload_n 3, 1) := dk_45 (dk_at dksX7_init_2 9 rfl rfl)
theorem dX7_init_58 : decode cX7_init 58 = .ok (.invokeinterface 42 1, 5) := by decide +kernel
theorem dX7_init_63 : decode cX7_init 63 = .ok (.ifCond .eq 87, 3) := dk_153 0 87 (dk_at dksX7_init_2 15 rfl rfl)
theorem dX7_init_66 : decode cX7_init 66 = .ok (.aload_n 3, 1) := dk_45 (dk_at dksX7_init_2 18 rfl rfl)
theorem dX7_init_67 : decode cX7_init 67 = .ok (.invokeinterface 48 1, 5) := by decide +kernel
theorem dX7_init_72 : decode cX7_init 72 = .ok (.checkcast 52, 3) := dk_192 0 52 (dk_at dksX7_init_3 0 rfl rfl)
theorem dX7_init_75 : decode cX7_init 75 = .ok (.astore 4, 2) := dk_58 4 (dk_at dksX7_init_3 3 rfl rfl)
theorem dX7_init_77 : decode cX7_init 77 = .ok (.aload_n 0, 1) := dk_42 (dk_at dksX7_init_3 5 rfl rfl)
theorem dX7_init_78 : decode cX7_init 78 = .ok (.getfield 18, 3) := dk_180 0 18 (dk_at dksX7_init_3 6 rfl rfl)
theorem dX7_init_81 : decode cX7_init 81 = .ok (.aload 4, 2) := dk_25 4 (dk_at dksX7_init_3 9 rfl rfl)
theorem dX7_init_83 : decode cX7_init 83 = .ok (.invokeinterface 54 2, 5) := by decide +kernel
theorem dX7_init_88 : decode cX7_init 88 = .ok (.pop, 1) := dk_87 (dk_at dksX7_init_3 16 rfl rfl)
theorem dX7_init_89 : decode cX7_init 89 = .ok (.aload 4, 2) := dk_25 4 (dk_at dksX7_init_3 17 rfl rfl)
theorem dX7_init_91 : decode cX7_init 91 = .ok (.getfield 60, 3) := dk_180 0 60 (dk_at dksX7_init_3 19 rfl rfl)
theorem dX7_init_94 : decode cX7_init 94 = .ok (.ifCond .eq 24, 3) := dk_153 0 24 (dk_at dksX7_init_4 0 rfl rfl)
theorem dX7_init_97 : decode cX7_init 97 = .ok (.aload 4, 2) := dk_25 4 (dk_at dksX7_init_4 3 rfl rfl)
theorem dX7_init_99 : decode cX7_init 99 = .ok (.aload_n 2, 1) := dk_44 (dk_at dksX7_init_4 5 rfl rfl)
theorem dX7_init_100 : decode cX7_init 100 = .ok (.invokevirtual 64, 3) := dk_182 0 64 (dk_at dksX7_init_4 6 rfl rfl)
theorem dX7_init_103 : decode cX7_init 103 = .ok (.checkcast 52, 3) := dk_192 0 52 (dk_at dksX7_init_4 9 rfl rfl)
theorem dX7_init_106 : decode cX7_init 106 = .ok (.putfield 67, 3) := dk_181 0 67 (dk_at dksX7_init_4 12 rfl rfl)
theorem dX7_init_109 : decode cX7_init 109 = .ok (.aload_n 2, 1) := dk_44 (dk_at dksX7_init_4 15 rfl rfl)
theorem dX7_init_110 : decode cX7_init 110 = .ok (.aload 4, 2) := dk_25 4 (dk_at dksX7_init_4 16 rfl rfl)
theorem dX7_init_112 : decode cX7_init 112 = .ok (.invokevirtual 71, 3) := dk_182 0 71 (dk_at dksX7_init_4 18 rfl rfl)
theorem dX7_init_115 : decode cX7_init 115 = .ok (.goto 32, 3) := dk_167 0 32 (dk_at dksX7_init_4 21 rfl rfl)
theorem dX7_init_118 : decode cX7_init 118 = .ok (.aload_n 2, 1) := dk_44 (dk_at dksX7_init_5 0 rfl rfl)
theorem dX7_init_119 : decode cX7_init 119 = .ok (.invokevirtual 75, 3) := dk_182 0 75 (dk_at dksX7_init_5 1 rfl rfl)
theorem dX7_init_122 : decode cX7_init 122 = .ok (.ifCond .ne 25, 3) := dk_154 0 25 (dk_at dksX7_init_5 4 rfl rfl)
theorem dX7_init_125 : decode cX7_init 125 = .ok (.aload 4, 2) := dk_25 4 (dk_at dksX7_init_5 7 rfl rfl)
theorem dX7_init_127 : decode cX7_init 127 = .ok (.aload_n 2, 1) := dk_44 (dk_at dksX7_init_5 9 rfl rfl)
theorem dX7_init_128 : decode cX7_init 128 = .ok (.invokevirtual 78, 3) := dk_182 0 78 (dk_at dksX7_init_5 10 rfl rfl)
theorem dX7_init_131 : decode cX7_init 131 = .ok (.checkcast 52, 3) := dk_192 0 52 (dk_at dksX7_init_5 13 rfl rfl)
theorem dX7_init_134 : decode cX7_init 134 = .ok (.putfield 81, 3) := dk_181 0 81 (dk_at dksX7_init_5 16 rfl rfl)
theorem dX7_init_137 : decode cX7_init 137 = .ok (.aload 4, 2) := dk_25 4 (dk_at dksX7_init_5 19 rfl rfl)
theorem dX7_init_139 : decode cX7_init 139 = .ok (.getfield 81, 3) := dk_180 0 81 (dk_at dksX7_init_5 21 rfl rfl)
theorem dX7_init_142 : decode cX7_init 142 = .ok (.aload 4, 2) := dk_25 4 (dk_at dksX7_init_6 0 rfl rfl)
theorem dX7_init_144 : decode cX7_init 144 = .ok (.putfield 81, 3) := dk_181 0 81 (dk_at dksX7_init_6 2 rfl rfl)
theorem dX7_init_147 : decode cX7_init 147 = .ok (.goto (-90), 3) := dk_167 255 166 (dk_at dksX7_init_6 5 rfl rfl)
theorem dX7_init_150 : decode cX7_init 150 = .ok (.aload_n 0, 1) := dk_42 (dk_at dksX7_init_6 8 rfl rfl)
theorem dX7_init_151 : decode cX7_init 151 = .ok (.getfield 18, 3) := dk_180 0 18 (dk_at dksX7_init_6 9 rfl rfl)
theorem dX7_init_154 : decode cX7_init 154 = .ok (.invokeinterface 84 1, 5) := by decide +kernel
theorem dX7_init_159 : decode cX7_init 159 = .ok (.astore_n 3, 1) := dk_78 (dk_at dksX7_init_6 17 rfl rfl)
theorem dX7_init_160 : decode cX7_init 160 = .ok (.aload_n 3, 1) := dk_45 (dk_at dksX7_init_6 18 rfl rfl)
theorem dX7_init_161 : decode cX7_init 161 = .ok (.invokeinterface 42 1, 5) := by decide +kernel
theorem dX7_init_166 : decode cX7_init 166 = .ok (.ifCond .eq 140, 3) := dk_153 0 140 (dk_at dksX7_init_7 0 rfl rfl)
theorem dX7_init_169 : decode cX7_init 169 = .ok (.aload_n 3, 1) := dk_45 (dk_at dksX7_init_7 3 rfl rfl)
theorem dX7_init_170 : decode cX7_init 170 = .ok (.invokeinterface 48 1, 5) := by decide +kernel
theorem dX7_init_175 : decode cX7_init 175 = .ok (.checkcast 52, 3) := dk_192 0 52 (dk_at dksX7_init_7 9 rfl rfl)
theorem dX7_init_178 : decode cX7_init 178 = .ok (.astore 4, 2) := dk_58 4 (dk_at dksX7_init_7 12 rfl rfl)
theorem dX7_init_180 : decode cX7_init 180 = .ok (.aload 4, 2) := dk_25 4 (dk_at dksX7_init_7 14 rfl rfl)
theorem dX7_init_182 : decode cX7_init 182 = .ok (.getfield 60, 3) := dk_180 0 60 (dk_at dksX7_init_7 16 rfl rfl)
theorem dX7_init_185 : decode cX7_init 185 = .ok (.ifCond .eq (-25), 3) := dk_153 255 231 (dk_at dksX7_init_7 19 rfl rfl)
theorem dX7_init_188 : decode cX7_init 188 = .ok (.aload 4, 2) := dk_25 4 (dk_at dksX7_init_7 22 rfl rfl)
theorem dX7_init_190 : decode cX7_init 190 = .ok (.invokevirtual 85, 3) := dk_182 0 85 (dk_at dksX7_init_8 0 rfl rfl)
theorem dX7_init_193 : decode cX7_init 193 = .ok (.ifCond .ne (-33), 3) := dk_154 255 223 (dk_at dksX7_init_8 3 rfl rfl)
theorem dX7_init_196 : decode cX7_init 196 = .ok (.aload 4, 2) := dk_25 4 (dk_at dksX7_init_8 6 rfl rfl)
theorem dX7_init_198 : decode cX7_init 198 = .ok (.getfield 81, 3) := dk_180 0 81 (dk_at dksX7_init_8 8 rfl rfl)
theorem dX7_init_201 : decode cX7_init 201 = .ok (.getfield 88, 3) := dk_180 0 88 (dk_at dksX7_init_8 11 rfl rfl)
theorem dX7_init_204 : decode cX7_init 204 = .ok (.aload 4, 2) := dk_25 4 (dk_at dksX7_init_8 14 rfl rfl)
theorem dX7_init_206 : decode cX7_init 206 = .ok (.getfield 88, 3) := dk_180 0 88 (dk_at dksX7_init_8 16 rfl rfl)
theorem dX7_init_209 : decode cX7_init 209 = .ok (.if_icmp .ne 6, 3) := dk_160 0 6 (dk_at dksX7_init_8 19 rfl rfl)
theorem dX7_init_212 : decode cX7_init 212 = .ok (.goto (-52), 3) := dk_167 255 204 (dk_at dksX7_init_9 0 rfl rfl)
theorem dX7_init_215 : decode cX7_init 215 = .ok (.aload 4, 2) := dk_25 4 (dk_at dksX7_init_9 3 rfl rfl)
theorem dX7_init_217 : decode cX7_init 217 = .ok (.new 92, 3) := dk_187 0 92 (dk_at dksX7_init_9 5 rfl rfl)
theorem dX7_init_220 : decode cX7_init 220 = .ok (.dup, 1) := dk_89 (dk_at dksX7_init_9 8 rfl rfl)
theorem dX7_init_221 : decode cX7_init 221 = .ok (.aload_n 0, 1) := dk_42 (dk_at dksX7_init_9 9 rfl rfl)
theorem dX7_init_222 : decode cX7_init 222 = .ok (.getfield 22, 3) := dk_180 0 22 (dk_at dksX7_init_9 10 rfl rfl)
theorem dX7_init_225 : decode cX7_init 225 = .ok (.invokeinterface 94 1, 5) := by decide +kernel
theorem dX7_init_230 : decode cX7_init 230 = .ok (.aload 4, 2) := dk_25 4 (dk_at dksX7_init_9 18 rfl rfl)
theorem dX7_init_232 : decode cX7_init 232 = .ok (.invokespecial 95, 3) := dk_183 0 95 (dk_at dksX7_init_9 20 rfl rfl)
theorem dX7_init_235 : decode cX7_init 235 = .ok (.putfield 98, 3) := dk_181 0 98 (dk_at dksX7_init_10 0 rfl rfl)
theorem dX7_init_238 : decode cX7_init 238 = .ok (.aload_n 0, 1) := dk_42 (dk_at dksX7_init_10 3 rfl rfl)
theorem dX7_init_239 : decode cX7_init 239 = .ok (.getfield 22, 3) := dk_180 0 22 (dk_at dksX7_init_10 4 rfl rfl)
theorem dX7_init_242 : decode cX7_init 242 = .ok (.aload 4, 2) := dk_25 4 (dk_at dksX7_init_10 7 rfl rfl)
theorem dX7_init_244 : decode cX7_init 244 = .ok (.getfield 98, 3) := dk_180 0 98 (dk_at dksX7_init_10 9 rfl rfl)
theorem dX7_init_247 : decode cX7_init 247 = .ok (.invokeinterface 54 2, 5) := by decide +kernel
theorem dX7_init_252 : decode cX7_init 252 = .ok (.pop, 1) := dk_87 (dk_at dksX7_init_10 17 rfl rfl)
theorem dX7_init_253 : decode cX7_init 253 = .ok (.aload 4, 2) := dk_25 4 (dk_at dksX7_init_10 18 rfl rfl)
theorem dX7_init_255 : decode cX7_init 255 = .ok (.getfield 98, 3) := dk_180 0 98 (dk_at dksX7_init_10 20 rfl rfl)
theorem dX7_init_258 : decode cX7_init 258 = .ok (.invokevirtual 102, 3) := dk_182 0 102 (dk_at dksX7_init_11 0 rfl rfl)
theorem dX7_init_261 : decode cX7_init 261 = .ok (.aload 4, 2) := dk_25 4 (dk_at dksX7_init_11 3 rfl rfl)
theorem dX7_init_263 : decode cX7_init 263 = .ok (.getfield 98, 3) := dk_180 0 98 (dk_at dksX7_init_11 5 rfl rfl)
theorem dX7_init_266 : decode cX7_init 266 = .ok (.invokevirtual 105, 3) := dk_182 0 105 (dk_at dksX7_init_11 8 rfl rfl)
theorem dX7_init_269 : decode cX7_init 269 = .ok (.iconst 1, 1) := dk_4 (dk_at dksX7_init_11 11 rfl rfl)
theorem dX7_init_270 : decode cX7_init 270 = .ok (.iadd, 1) := dk_96 (dk_at dksX7_init_11 12 rfl rfl)
theorem dX7_init_271 : decode cX7_init 271 = .ok (.istore 5, 2) := dk_54 5 (dk_at dksX7_init_11 13 rfl rfl)
theorem dX7_init_273 : decode cX7_init 273 = .ok (.iload 5, 2) := dk_21 5 (dk_at dksX7_init_11 15 rfl rfl)
theorem dX7_init_275 : decode cX7_init 275 = .ok (.aload 4, 2) := dk_25 4 (dk_at dksX7_init_11 17 rfl rfl)
theorem dX7_init_277 : decode cX7_init 277 = .ok (.getfield 98, 3) := dk_180 0 98 (dk_at dksX7_init_11 19 rfl rfl)
theorem dX7_init_280 : decode cX7_init 280 = .ok (.invokevirtual 108, 3) := dk_182 0 108 (dk_at dksX7_init_12 0 rfl rfl)
theorem dX7_init_283 : decode cX7_init 283 = .ok (.if_icmp .ge 20, 3) := dk_162 0 20 (dk_at dksX7_init_12 3 rfl rfl)
theorem dX7_init_286 : decode cX7_init 286 = .ok (.aload_n 0, 1) := dk_42 (dk_at dksX7_init_12 6 rfl rfl)
theorem dX7_init_287 : decode cX7_init 287 = .ok (.getfield 31, 3) := dk_180 0 31 (dk_at dksX7_init_12 7 rfl rfl)
theorem dX7_init_290 : decode cX7_init 290 = .ok (.iload 5, 2) := dk_21 5 (dk_at dksX7_init_12 10 rfl rfl)
theorem dX7_init_292 : decode cX7_init 292 = .ok (.dup2, 1) := dk_92 (dk_at dksX7_init_12 12 rfl rfl)
theorem dX7_init_293 : decode cX7_init 293 = .ok (.iaload, 1) := dk_46 (dk_at dksX7_init_12 13 rfl rfl)
theorem dX7_init_294 : decode cX7_init 294 = .ok (.iconst 1, 1) := dk_4 (dk_at dksX7_init_12 14 rfl rfl)
theorem dX7_init_295 : decode cX7_init 295 = .ok (.iadd, 1) := dk_96 (dk_at dksX7_init_12 15 rfl rfl)
theorem dX7_init_296 : decode cX7_init 296 = .ok (.iastore, 1) := dk_79 (dk_at dksX7_init_12 16 rfl rfl)
theorem dX7_init_297 : decode cX7_init 297 = .ok (.iinc 5 1, 3) := dk_132 5 1 (dk_at dksX7_init_12 17 rfl rfl)
theorem dX7_init_300 : decode cX7_init 300 = .ok (.goto (-27), 3) := dk_167 255 229 (dk_at dksX7_init_12 20 rfl rfl)
theorem dX7_init_303 : decode cX7_init 303 = .ok (.goto (-143), 3) := dk_167 255 113 (dk_at dksX7_init_13 0 rfl rfl)
theorem dX7_init_306 : decode cX7_init 306 = .ok (.aload_n 0, 1) := dk_42 (dk_at dksX7_init_13 3 rfl rfl)
theorem dX7_init_307 : decode cX7_init 307 = .ok (.aload_n 0, 1) := dk_42 (dk_at dksX7_init_13 4 rfl rfl)
theorem dX7_init_308 : decode cX7_init 308 = .ok (.new 111, 3) := dk_187 0 111 (dk_at dksX7_init_13 5 rfl rfl)
theorem dX7_init_311 : decode cX7_init 311 = .ok (.dup, 1) := dk_89 (dk_at dksX7_init_13 8 rfl rfl)
theorem dX7_init_312 : decode cX7_init 312 = .ok (.aload_n 0, 1) := dk_42 (dk_at dksX7_init_13 9 rfl rfl)
theorem dX7_init_313 : decode cX7_init 313 = .ok (.aload_n 1, 1) := dk_43 (dk_at dksX7_init_13 10 rfl rfl)
theorem dX7_init_314 : decode cX7_init 314 = .ok (.invokespecial 113, 3) := dk_183 0 113 (dk_at dksX7_init_13 11 rfl rfl)
theorem dX7_init_317 : decode cX7_init 317 = .ok (.invokevirtual 116, 3) := dk_182 0 116 (dk_at dksX7_init_13 14 rfl rfl)
theorem dX7_init_320 : decode cX7_init 320 = .ok (.putfield 120, 3) := dk_181 0 120 (dk_at dksX7_init_13 17 rfl rfl)
theorem dX7_init_323 : decode cX7_init 323 = .ok (.return_, 1) := dk_177 (dk_at dksX7_init_13 20 rfl rfl)
abbrev cX7_hiddenBy : ByteArray := prog_14_method_2_code
def yX7_hiddenBy : MethodName := ⟨RX7, "hiddenBy", "(LFoldLister$Folds;)Ljava/util/BitSet;"⟩
def dkwX7_hiddenBy_3 : List UInt8 := [25, 4, 182, 0, 105, 4, 96, 25, 4, 182, 0, 108, 182, 0, 133, 167, 255, 191, 44, 176]
abbrev dktX7_hiddenBy_3 : List UInt8 := dkwX7_hiddenBy_3 ++ []
def dkwX7_hiddenBy_2 : List UInt8 := [185, 0, 127, 2, 0, 153, 0, 34, 25, 4, 182, 0, 105, 4, 96, 25, 4, 182, 0, 108, 162, 0, 19, 44]
abbrev dktX7_hiddenBy_2 : List UInt8 := dkwX7_hiddenBy_2 ++ dktX7_hiddenBy_3
def dkwX7_hiddenBy_1 : List UInt8 := [153, 0, 62, 45, 185, 0, 48, 1, 0, 192, 0, 92, 58, 4, 43, 25, 4, 182, 0, 105]
abbrev dktX7_hiddenBy_1 : List UInt8 := dkwX7_hiddenBy_1 ++ dktX7_hiddenBy_2
def dkwX7_hiddenBy_0 : List UInt8 := [187, 0, 124, 89, 183, 0, 126, 77, 42, 180, 0, 22, 185, 0, 84, 1, 0, 78, 45, 185, 0, 42, 1, 0]
abbrev dktX7_hiddenBy_0 : List UInt8 := dkwX7_hiddenBy_0 ++ dktX7_hiddenBy_1
theorem dksX7_hiddenBy_0 : cX7_hiddenBy.data.toList.drop 0 = dktX7_hiddenBy_0 := by decide +kernel
theorem dksX7_hiddenBy_1 : cX7_hiddenBy.data.toList.drop 24 = dktX7_hiddenBy_1 := dk_seg dksX7_hiddenBy_0 24 rfl rfl
theorem dksX7_hiddenBy_2 : cX7_hiddenBy.data.toList.drop 44 = dktX7_hiddenBy_2 := dk_seg dksX7_hiddenBy_1 20 rfl rfl
theorem dksX7_hiddenBy_3 : cX7_hiddenBy.data.toList.drop 68 = dktX7_hiddenBy_3 := dk_seg dksX7_hiddenBy_2 24 rfl rfl
theorem dX7_hiddenBy_0 : decode cX7_hiddenBy 0 = .ok (.new 124, 3) := dk_187 0 124 (dk_at dksX7_hiddenBy_0 0 rfl rfl)
theorem dX7_hiddenBy_3 : decode cX7_hiddenBy 3 = .ok (.dup, 1) := dk_89 (dk_at dksX7_hiddenBy_0 3 rfl rfl)
theorem dX7_hiddenBy_4 : decode cX7_hiddenBy 4 = .ok (.invokespecial 126, 3) := dk_183 0 126 (dk_at dksX7_hiddenBy_0 4 rfl rfl)
theorem dX7_hiddenBy_7 : decode cX7_hiddenBy 7 = .ok (.astore_n 2, 1) := dk_77 (dk_at dksX7_hiddenBy_0 7 rfl rfl)
theorem dX7_hiddenBy_8 : decode cX7_hiddenBy 8 = .ok (.aload_n 0, 1) := dk_42 (dk_at dksX7_hiddenBy_0 8 rfl rfl)
theorem dX7_hiddenBy_9 : decode cX7_hiddenBy 9 = .ok (.getfield 22, 3) := dk_180 0 22 (dk_at dksX7_hiddenBy_0 9 rfl rfl)
theorem dX7_hiddenBy_12 : decode cX7_hiddenBy 12 = .ok (.invokeinterface 84 1, 5) := by decide +kernel
theorem dX7_hiddenBy_17 : decode cX7_hiddenBy 17 = .ok (.astore_n 3, 1) := dk_78 (dk_at dksX7_hiddenBy_0 17 rfl rfl)
theorem dX7_hiddenBy_18 : decode cX7_hiddenBy 18 = .ok (.aload_n 3, 1) := dk_45 (dk_at dksX7_hiddenBy_0 18 rfl rfl)
theorem dX7_hiddenBy_19 : decode cX7_hiddenBy 19 = .ok (.invokeinterface 42 1, 5) := by decide +kernel
theorem dX7_hiddenBy_24 : decode cX7_hiddenBy 24 = .ok (.ifCond .eq 62, 3) := dk_153 0 62 (dk_at dksX7_hiddenBy_1 0 rfl rfl)
theorem dX7_hiddenBy_27 : decode cX7_hiddenBy 27 = .ok (.aload_n 3, 1) := dk_45 (dk_at dksX7_hiddenBy_1 3 rfl rfl)
theorem dX7_hiddenBy_28 : decode cX7_hiddenBy 28 = .ok (.invokeinterface 48 1, 5) := by decide +kernel
theorem dX7_hiddenBy_33 : decode cX7_hiddenBy 33 = .ok (.checkcast 92, 3) := dk_192 0 92 (dk_at dksX7_hiddenBy_1 9 rfl rfl)
theorem dX7_hiddenBy_36 : decode cX7_hiddenBy 36 = .ok (.astore 4, 2) := dk_58 4 (dk_at dksX7_hiddenBy_1 12 rfl rfl)
theorem dX7_hiddenBy_38 : decode cX7_hiddenBy 38 = .ok (.aload_n 1, 1) := dk_43 (dk_at dksX7_hiddenBy_1 14 rfl rfl)
theorem dX7_hiddenBy_39 : decode cX7_hiddenBy 39 = .ok (.aload 4, 2) := dk_25 4 (dk_at dksX7_hiddenBy_1 15 rfl rfl)
theorem dX7_hiddenBy_41 : decode cX7_hiddenBy 41 = .ok (.invokevirtual 105, 3) := dk_182 0 105 (dk_at dksX7_hiddenBy_1 17 rfl rfl)
theorem dX7_hiddenBy_44 : decode cX7_hiddenBy 44 = .ok (.invokeinterface 127 2, 5) := by decide +kernel
theorem dX7_hiddenBy_49 : decode cX7_hiddenBy 49 = .ok (.ifCond .eq 34, 3) := dk_153 0 34 (dk_at dksX7_hiddenBy_2 5 rfl rfl)
theorem dX7_hiddenBy_52 : decode cX7_hiddenBy 52 = .ok (.aload 4, 2) := dk_25 4 (dk_at dksX7_hiddenBy_2 8 rfl rfl)
theorem dX7_hiddenBy_54 : decode cX7_hiddenBy 54 = .ok (.invokevirtual 105, 3) := dk_182 0 105 (dk_at dksX7_hiddenBy_2 10 rfl rfl)
theorem dX7_hiddenBy_57 : decode cX7_hiddenBy 57 = .ok (.iconst 1, 1) := dk_4 (dk_at dksX7_hiddenBy_2 13 rfl rfl)
theorem dX7_hiddenBy_58 : decode cX7_hiddenBy 58 = .ok (.iadd, 1) := dk_96 (dk_at dksX7_hiddenBy_2 14 rfl rfl)
theorem dX7_hiddenBy_59 : decode cX7_hiddenBy 59 = .ok (.aload 4, 2) := dk_25 4 (dk_at dksX7_hiddenBy_2 15 rfl rfl)
theorem dX7_hiddenBy_61 : decode cX7_hiddenBy 61 = .ok (.invokevirtual 108, 3) := dk_182 0 108 (dk_at dksX7_hiddenBy_2 17 rfl rfl)
theorem dX7_hiddenBy_64 : decode cX7_hiddenBy 64 = .ok (.if_icmp .ge 19, 3) := dk_162 0 19 (dk_at dksX7_hiddenBy_2 20 rfl rfl)
theorem dX7_hiddenBy_67 : decode cX7_hiddenBy 67 = .ok (.aload_n 2, 1) := dk_44 (dk_at dksX7_hiddenBy_2 23 rfl rfl)
theorem dX7_hiddenBy_68 : decode cX7_hiddenBy 68 = .ok (.aload 4, 2) := dk_25 4 (dk_at dksX7_hiddenBy_3 0 rfl rfl)
theorem dX7_hiddenBy_70 : decode cX7_hiddenBy 70 = .ok (.invokevirtual 105, 3) := dk_182 0 105 (dk_at dksX7_hiddenBy_3 2 rfl rfl)
theorem dX7_hiddenBy_73 : decode cX7_hiddenBy 73 = .ok (.iconst 1, 1) := dk_4 (dk_at dksX7_hiddenBy_3 5 rfl rfl)
theorem dX7_hiddenBy_74 : decode cX7_hiddenBy 74 = .ok (.iadd, 1) := dk_96 (dk_at dksX7_hiddenBy_3 6 rfl rfl)
theorem dX7_hiddenBy_75 : decode cX7_hiddenBy 75 = .ok (.aload 4, 2) := dk_25 4 (dk_at dksX7_hiddenBy_3 7 rfl rfl)
theorem dX7_hiddenBy_77 : decode cX7_hiddenBy 77 = .ok (.invokevirtual 108, 3) := dk_182 0 108 (dk_at dksX7_hiddenBy_3 9 rfl rfl)
theorem dX7_hiddenBy_80 : decode cX7_hiddenBy 80 = .ok (.invokevirtual 133, 3) := dk_182 0 133 (dk_at dksX7_hiddenBy_3 12 rfl rfl)
theorem dX7_hiddenBy_83 : decode cX7_hiddenBy 83 = .ok (.goto (-65), 3) := dk_167 255 191 (dk_at dksX7_hiddenBy_3 15 rfl rfl)
theorem dX7_hiddenBy_86 : decode cX7_hiddenBy 86 = .ok (.aload_n 2, 1) := dk_44 (dk_at dksX7_hiddenBy_3 18 rfl rfl)
theorem dX7_hiddenBy_87 : decode cX7_hiddenBy 87 = .ok (.areturn, 1) := dk_176 (dk_at dksX7_hiddenBy_3 19 rfl rfl)
abbrev cX7_isShown : ByteArray := prog_14_method_3_code
def yX7_isShown : MethodName := ⟨RX7, "isShown", "(I)Z"⟩
def dkwX7_isShown_0 : List UInt8 := [42, 180, 0, 120, 27, 182, 0, 137, 154, 0, 7, 4, 167, 0, 4, 3, 172]
abbrev dktX7_isShown_0 : List UInt8 := dkwX7_isShown_0 ++ []
theorem dksX7_isShown_0 : cX7_isShown.data.toList.drop 0 = dktX7_isShown_0 := by decide +kernel
theorem dX7_isShown_0 : decode cX7_isShown 0 = .ok (.aload_n 0, 1) := dk_42 (dk_at dksX7_isShown_0 0 rfl rfl)
theorem dX7_isShown_1 : decode cX7_isShown 1 = .ok (.getfield 120, 3) := dk_180 0 120 (dk_at dksX7_isShown_0 1 rfl rfl)
theorem dX7_isShown_4 : decode cX7_isShown 4 = .ok (.iload_n 1, 1) := dk_27 (dk_at dksX7_isShown_0 4 rfl rfl)
theorem dX7_isShown_5 : decode cX7_isShown 5 = .ok (.invokevirtual 137, 3) := dk_182 0 137 (dk_at dksX7_isShown_0 5 rfl rfl)
theorem dX7_isShown_8 : decode cX7_isShown 8 = .ok (.ifCond .ne 7, 3) := dk_154 0 7 (dk_at dksX7_isShown_0 8 rfl rfl)
theorem dX7_isShown_11 : decode cX7_isShown 11 = .ok (.iconst 1, 1) := dk_4 (dk_at dksX7_isShown_0 11 rfl rfl)
theorem dX7_isShown_12 : decode cX7_isShown 12 = .ok (.goto 4, 3) := dk_167 0 4 (dk_at dksX7_isShown_0 12 rfl rfl)
theorem dX7_isShown_15 : decode cX7_isShown 15 = .ok (.iconst 0, 1) := dk_3 (dk_at dksX7_isShown_0 15 rfl rfl)
theorem dX7_isShown_16 : decode cX7_isShown 16 = .ok (.ireturn, 1) := dk_172 (dk_at dksX7_isShown_0 16 rfl rfl)
abbrev cX7_shown : ByteArray := prog_14_method_4_code
def yX7_shown : MethodName := ⟨RX7, "shown", "()I"⟩
def dkwX7_shown_0 : List UInt8 := [42, 180, 0, 3, 182, 0, 25, 42, 180, 0, 120, 182, 0, 140, 100, 172]
abbrev dktX7_shown_0 : List UInt8 := dkwX7_shown_0 ++ []
theorem dksX7_shown_0 : cX7_shown.data.toList.drop 0 = dktX7_shown_0 := by decide +kernel
theorem dX7_shown_0 : decode cX7_shown 0 = .ok (.aload_n 0, 1) := dk_42 (dk_at dksX7_shown_0 0 rfl rfl)
theorem dX7_shown_1 : decode cX7_shown 1 = .ok (.getfield 3, 3) := dk_180 0 3 (dk_at dksX7_shown_0 1 rfl rfl)
theorem dX7_shown_4 : decode cX7_shown 4 = .ok (.invokevirtual 25, 3) := dk_182 0 25 (dk_at dksX7_shown_0 4 rfl rfl)
theorem dX7_shown_7 : decode cX7_shown 7 = .ok (.aload_n 0, 1) := dk_42 (dk_at dksX7_shown_0 7 rfl rfl)
theorem dX7_shown_8 : decode cX7_shown 8 = .ok (.getfield 120, 3) := dk_180 0 120 (dk_at dksX7_shown_0 8 rfl rfl)
theorem dX7_shown_11 : decode cX7_shown 11 = .ok (.invokevirtual 140, 3) := dk_182 0 140 (dk_at dksX7_shown_0 11 rfl rfl)
theorem dX7_shown_14 : decode cX7_shown 14 = .ok (.isub, 1) := dk_100 (dk_at dksX7_shown_0 14 rfl rfl)
theorem dX7_shown_15 : decode cX7_shown 15 = .ok (.ireturn, 1) := dk_172 (dk_at dksX7_shown_0 15 rfl rfl)
abbrev cX7_hiders : ByteArray := prog_14_method_13_code
def yX7_hiders : MethodName := ⟨RX7, "hiders", "(I)Ljava/util/BitSet;"⟩
def dkwX7_hiders_2 : List UInt8 := [25, 4, 182, 0, 157, 153, 0, 12, 44, 25, 4, 182, 0, 105, 182, 0, 167, 167, 255, 209, 44, 176]
abbrev dktX7_hiders_2 : List UInt8 := dkwX7_hiders_2 ++ []
def dkwX7_hiders_1 : List UInt8 := [153, 0, 44, 45, 185, 0, 48, 1, 0, 192, 0, 92, 58, 4, 25, 4, 27, 182, 0, 161, 153, 0, 21, 42]
abbrev dktX7_hiders_1 : List UInt8 := dkwX7_hiders_1 ++ dktX7_hiders_2
def dkwX7_hiders_0 : List UInt8 := [187, 0, 124, 89, 183, 0, 126, 77, 42, 180, 0, 22, 185, 0, 84, 1, 0, 78, 45, 185, 0, 42, 1, 0]
abbrev dktX7_hiders_0 : List UInt8 := dkwX7_hiders_0 ++ dktX7_hiders_1
theorem dksX7_hiders_0 : cX7_hiders.data.toList.drop 0 = dktX7_hiders_0 := by decide +kernel
theorem dksX7_hiders_1 : cX7_hiders.data.toList.drop 24 = dktX7_hiders_1 := dk_seg dksX7_hiders_0 24 rfl rfl
theorem dksX7_hiders_2 : cX7_hiders.data.toList.drop 48 = dktX7_hiders_2 := dk_seg dksX7_hiders_1 24 rfl rfl
theorem dX7_hiders_0 : decode cX7_hiders 0 = .ok (.new 124, 3) := dk_187 0 124 (dk_at dksX7_hiders_0 0 rfl rfl)
theorem dX7_hiders_3 : decode cX7_hiders 3 = .ok (.dup, 1) := dk_89 (dk_at dksX7_hiders_0 3 rfl rfl)
theorem dX7_hiders_4 : decode cX7_hiders 4 = .ok (.invokespecial 126, 3) := dk_183 0 126 (dk_at dksX7_hiders_0 4 rfl rfl)
theorem dX7_hiders_7 : decode cX7_hiders 7 = .ok (.astore_n 2, 1) := dk_77 (dk_at dksX7_hiders_0 7 rfl rfl)
theorem dX7_hiders_8 : decode cX7_hiders 8 = .ok (.aload_n 0, 1) := dk_42 (dk_at dksX7_hiders_0 8 rfl rfl)
theorem dX7_hiders_9 : decode cX7_hiders 9 = .ok (.getfield 22, 3) := dk_180 0 22 (dk_at dksX7_hiders_0 9 rfl rfl)
theorem dX7_hiders_12 : decode cX7_hiders 12 = .ok (.invokeinterface 84 1, 5) := by decide +kernel
theorem dX7_hiders_17 : decode cX7_hiders 17 = .ok (.astore_n 3, 1) := dk_78 (dk_at dksX7_hiders_0 17 rfl rfl)
theorem dX7_hiders_18 : decode cX7_hiders 18 = .ok (.aload_n 3, 1) := dk_45 (dk_at dksX7_hiders_0 18 rfl rfl)
theorem dX7_hiders_19 : decode cX7_hiders 19 = .ok (.invokeinterface 42 1, 5) := by decide +kernel
theorem dX7_hiders_24 : decode cX7_hiders 24 = .ok (.ifCond .eq 44, 3) := dk_153 0 44 (dk_at dksX7_hiders_1 0 rfl rfl)
theorem dX7_hiders_27 : decode cX7_hiders 27 = .ok (.aload_n 3, 1) := dk_45 (dk_at dksX7_hiders_1 3 rfl rfl)
theorem dX7_hiders_28 : decode cX7_hiders 28 = .ok (.invokeinterface 48 1, 5) := by decide +kernel
theorem dX7_hiders_33 : decode cX7_hiders 33 = .ok (.checkcast 92, 3) := dk_192 0 92 (dk_at dksX7_hiders_1 9 rfl rfl)
theorem dX7_hiders_36 : decode cX7_hiders 36 = .ok (.astore 4, 2) := dk_58 4 (dk_at dksX7_hiders_1 12 rfl rfl)
theorem dX7_hiders_38 : decode cX7_hiders 38 = .ok (.aload 4, 2) := dk_25 4 (dk_at dksX7_hiders_1 14 rfl rfl)
theorem dX7_hiders_40 : decode cX7_hiders 40 = .ok (.iload_n 1, 1) := dk_27 (dk_at dksX7_hiders_1 16 rfl rfl)
theorem dX7_hiders_41 : decode cX7_hiders 41 = .ok (.invokevirtual 161, 3) := dk_182 0 161 (dk_at dksX7_hiders_1 17 rfl rfl)
theorem dX7_hiders_44 : decode cX7_hiders 44 = .ok (.ifCond .eq 21, 3) := dk_153 0 21 (dk_at dksX7_hiders_1 20 rfl rfl)
theorem dX7_hiders_47 : decode cX7_hiders 47 = .ok (.aload_n 0, 1) := dk_42 (dk_at dksX7_hiders_1 23 rfl rfl)
theorem dX7_hiders_48 : decode cX7_hiders 48 = .ok (.aload 4, 2) := dk_25 4 (dk_at dksX7_hiders_2 0 rfl rfl)
theorem dX7_hiders_50 : decode cX7_hiders 50 = .ok (.invokevirtual 157, 3) := dk_182 0 157 (dk_at dksX7_hiders_2 2 rfl rfl)
theorem dX7_hiders_53 : decode cX7_hiders 53 = .ok (.ifCond .eq 12, 3) := dk_153 0 12 (dk_at dksX7_hiders_2 5 rfl rfl)
theorem dX7_hiders_56 : decode cX7_hiders 56 = .ok (.aload_n 2, 1) := dk_44 (dk_at dksX7_hiders_2 8 rfl rfl)
theorem dX7_hiders_57 : decode cX7_hiders 57 = .ok (.aload 4, 2) := dk_25 4 (dk_at dksX7_hiders_2 9 rfl rfl)
theorem dX7_hiders_59 : decode cX7_hiders 59 = .ok (.invokevirtual 105, 3) := dk_182 0 105 (dk_at dksX7_hiders_2 11 rfl rfl)
theorem dX7_hiders_62 : decode cX7_hiders 62 = .ok (.invokevirtual 167, 3) := dk_182 0 167 (dk_at dksX7_hiders_2 14 rfl rfl)
theorem dX7_hiders_65 : decode cX7_hiders 65 = .ok (.goto (-47), 3) := dk_167 255 209 (dk_at dksX7_hiders_2 17 rfl rfl)
theorem dX7_hiders_68 : decode cX7_hiders 68 = .ok (.aload_n 2, 1) := dk_44 (dk_at dksX7_hiders_2 20 rfl rfl)
theorem dX7_hiders_69 : decode cX7_hiders 69 = .ok (.areturn, 1) := dk_176 (dk_at dksX7_hiders_2 21 rfl rfl)
abbrev cX7_isFolded : ByteArray := prog_14_method_8_code
def yX7_isFolded : MethodName := ⟨RX7, "isFolded", "(LFoldLister$Region;)Z"⟩
def dkwX7_isFolded_0 : List UInt8 := [42, 180, 0, 3, 180, 0, 146, 43, 182, 0, 105, 185, 0, 149, 2, 0, 192, 0, 152, 180, 0, 154, 172]
abbrev dktX7_isFolded_0 : List UInt8 := dkwX7_isFolded_0 ++ []
theorem dksX7_isFolded_0 : cX7_isFolded.data.toList.drop 0 = dktX7_isFolded_0 := by decide +kernel
theorem dX7_isFolded_0 : decode cX7_isFolded 0 = .ok (.aload_n 0, 1) := dk_42 (dk_at dksX7_isFolded_0 0 rfl rfl)
theorem dX7_isFolded_1 : decode cX7_isFolded 1 = .ok (.getfield 3, 3) := dk_180 0 3 (dk_at dksX7_isFolded_0 1 rfl rfl)
theorem dX7_isFolded_4 : decode cX7_isFolded 4 = .ok (.getfield 146, 3) := dk_180 0 146 (dk_at dksX7_isFolded_0 4 rfl rfl)
theorem dX7_isFolded_7 : decode cX7_isFolded 7 = .ok (.aload_n 1, 1) := dk_43 (dk_at dksX7_isFolded_0 7 rfl rfl)
theorem dX7_isFolded_8 : decode cX7_isFolded 8 = .ok (.invokevirtual 105, 3) := dk_182 0 105 (dk_at dksX7_isFolded_0 8 rfl rfl)
theorem dX7_isFolded_11 : decode cX7_isFolded 11 = .ok (.invokeinterface 149 2, 5) := by decide +kernel
theorem dX7_isFolded_16 : decode cX7_isFolded 16 = .ok (.checkcast 152, 3) := dk_192 0 152 (dk_at dksX7_isFolded_0 16 rfl rfl)
theorem dX7_isFolded_19 : decode cX7_isFolded 19 = .ok (.getfield 154, 3) := dk_180 0 154 (dk_at dksX7_isFolded_0 19 rfl rfl)
theorem dX7_isFolded_22 : decode cX7_isFolded 22 = .ok (.ireturn, 1) := dk_172 (dk_at dksX7_isFolded_0 22 rfl rfl)
abbrev cX7_folded : ByteArray := prog_14_method_9_code
def yX7_folded : MethodName := ⟨RX7, "folded", "()I"⟩
def dkwX7_folded_2 : List UInt8 := [60, 167, 255, 221, 27, 172]
abbrev dktX7_folded_2 : List UInt8 := dkwX7_folded_2 ++ []
def dkwX7_folded_1 : List UInt8 := [185, 0, 48, 1, 0, 192, 0, 92, 78, 27, 42, 45, 182, 0, 157, 153, 0, 7, 4, 167, 0, 4, 3, 96]
abbrev dktX7_folded_1 : List UInt8 := dkwX7_folded_1 ++ dktX7_folded_2
def dkwX7_folded_0 : List UInt8 := [3, 60, 42, 180, 0, 22, 185, 0, 84, 1, 0, 77, 44, 185, 0, 42, 1, 0, 153, 0, 32, 44]
abbrev dktX7_folded_0 : List UInt8 := dkwX7_folded_0 ++ dktX7_folded_1
theorem dksX7_folded_0 : cX7_folded.data.toList.drop 0 = dktX7_folded_0 := by decide +kernel
theorem dksX7_folded_1 : cX7_folded.data.toList.drop 22 = dktX7_folded_1 := dk_seg dksX7_folded_0 22 rfl rfl
theorem dksX7_folded_2 : cX7_folded.data.toList.drop 46 = dktX7_folded_2 := dk_seg dksX7_folded_1 24 rfl rfl
theorem dX7_folded_0 : decode cX7_folded 0 = .ok (.iconst 0, 1) := dk_3 (dk_at dksX7_folded_0 0 rfl rfl)
theorem dX7_folded_1 : decode cX7_folded 1 = .ok (.istore_n 1, 1) := dk_60 (dk_at dksX7_folded_0 1 rfl rfl)
theorem dX7_folded_2 : decode cX7_folded 2 = .ok (.aload_n 0, 1) := dk_42 (dk_at dksX7_folded_0 2 rfl rfl)
theorem dX7_folded_3 : decode cX7_folded 3 = .ok (.getfield 22, 3) := dk_180 0 22 (dk_at dksX7_folded_0 3 rfl rfl)
theorem dX7_folded_6 : decode cX7_folded 6 = .ok (.invokeinterface 84 1, 5) := by decide +kernel
theorem dX7_folded_11 : decode cX7_folded 11 = .ok (.astore_n 2, 1) := dk_77 (dk_at dksX7_folded_0 11 rfl rfl)
theorem dX7_folded_12 : decode cX7_folded 12 = .ok (.aload_n 2, 1) := dk_44 (dk_at dksX7_folded_0 12 rfl rfl)
theorem dX7_folded_13 : decode cX7_folded 13 = .ok (.invokeinterface 42 1, 5) := by decide +kernel
theorem dX7_folded_18 : decode cX7_folded 18 = .ok (.ifCond .eq 32, 3) := dk_153 0 32 (dk_at dksX7_folded_0 18 rfl rfl)
theorem dX7_folded_21 : decode cX7_folded 21 = .ok (.aload_n 2, 1) := dk_44 (dk_at dksX7_folded_0 21 rfl rfl)
theorem dX7_folded_22 : decode cX7_folded 22 = .ok (.invokeinterface 48 1, 5) := by decide +kernel
theorem dX7_folded_27 : decode cX7_folded 27 = .ok (.checkcast 92, 3) := dk_192 0 92 (dk_at dksX7_folded_1 5 rfl rfl)
theorem dX7_folded_30 : decode cX7_folded 30 = .ok (.astore_n 3, 1) := dk_78 (dk_at dksX7_folded_1 8 rfl rfl)
theorem dX7_folded_31 : decode cX7_folded 31 = .ok (.iload_n 1, 1) := dk_27 (dk_at dksX7_folded_1 9 rfl rfl)
theorem dX7_folded_32 : decode cX7_folded 32 = .ok (.aload_n 0, 1) := dk_42 (dk_at dksX7_folded_1 10 rfl rfl)
theorem dX7_folded_33 : decode cX7_folded 33 = .ok (.aload_n 3, 1) := dk_45 (dk_at dksX7_folded_1 11 rfl rfl)
theorem dX7_folded_34 : decode cX7_folded 34 = .ok (.invokevirtual 157, 3) := dk_182 0 157 (dk_at dksX7_folded_1 12 rfl rfl)
theorem dX7_folded_37 : decode cX7_folded 37 = .ok (.ifCond .eq 7, 3) := dk_153 0 7 (dk_at dksX7_folded_1 15 rfl rfl)
theorem dX7_folded_40 : decode cX7_folded 40 = .ok (.iconst 1, 1) := dk_4 (dk_at dksX7_folded_1 18 rfl rfl)
theorem dX7_folded_41 : decode cX7_folded 41 = .ok (.goto 4, 3) := dk_167 0 4 (dk_at dksX7_folded_1 19 rfl rfl)
theorem dX7_folded_44 : decode cX7_folded 44 = .ok (.iconst 0, 1) := dk_3 (dk_at dksX7_folded_1 22 rfl rfl)
theorem dX7_folded_45 : decode cX7_folded 45 = .ok (.iadd, 1) := dk_96 (dk_at dksX7_folded_1 23 rfl rfl)
theorem dX7_folded_46 : decode cX7_folded 46 = .ok (.istore_n 1, 1) := dk_60 (dk_at dksX7_folded_2 0 rfl rfl)
theorem dX7_folded_47 : decode cX7_folded 47 = .ok (.goto (-35), 3) := dk_167 255 221 (dk_at dksX7_folded_2 1 rfl rfl)
theorem dX7_folded_50 : decode cX7_folded 50 = .ok (.iload_n 1, 1) := dk_27 (dk_at dksX7_folded_2 4 rfl rfl)
theorem dX7_folded_51 : decode cX7_folded 51 = .ok (.ireturn, 1) := dk_172 (dk_at dksX7_folded_2 5 rfl rfl)
abbrev cX7_rows : ByteArray := prog_14_method_5_code
def yX7_rows : MethodName := ⟨RX7, "rows", "(I)I"⟩
def dkwX7_rows_1 : List UInt8 := [61, 132, 3, 1, 167, 255, 232, 28, 172]
abbrev dktX7_rows_1 : List UInt8 := dkwX7_rows_1 ++ []
def dkwX7_rows_0 : List UInt8 := [3, 61, 3, 62, 29, 27, 163, 0, 25, 28, 42, 29, 182, 0, 143, 153, 0, 7, 4, 167, 0, 4, 3, 96]
abbrev dktX7_rows_0 : List UInt8 := dkwX7_rows_0 ++ dktX7_rows_1
theorem dksX7_rows_0 : cX7_rows.data.toList.drop 0 = dktX7_rows_0 := by decide +kernel
theorem dksX7_rows_1 : cX7_rows.data.toList.drop 24 = dktX7_rows_1 := dk_seg dksX7_rows_0 24 rfl rfl
theorem dX7_rows_0 : decode cX7_rows 0 = .ok (.iconst 0, 1) := dk_3 (dk_at dksX7_rows_0 0 rfl rfl)
theorem dX7_rows_1 : decode cX7_rows 1 = .ok (.istore_n 2, 1) := dk_61 (dk_at dksX7_rows_0 1 rfl rfl)
theorem dX7_rows_2 : decode cX7_rows 2 = .ok (.iconst 0, 1) := dk_3 (dk_at dksX7_rows_0 2 rfl rfl)
theorem dX7_rows_3 : decode cX7_rows 3 = .ok (.istore_n 3, 1) := dk_62 (dk_at dksX7_rows_0 3 rfl rfl)
theorem dX7_rows_4 : decode cX7_rows 4 = .ok (.iload_n 3, 1) := dk_29 (dk_at dksX7_rows_0 4 rfl rfl)
theorem dX7_rows_5 : decode cX7_rows 5 = .ok (.iload_n 1, 1) := dk_27 (dk_at dksX7_rows_0 5 rfl rfl)
theorem dX7_rows_6 : decode cX7_rows 6 = .ok (.if_icmp .gt 25, 3) := dk_163 0 25 (dk_at dksX7_rows_0 6 rfl rfl)
theorem dX7_rows_9 : decode cX7_rows 9 = .ok (.iload_n 2, 1) := dk_28 (dk_at dksX7_rows_0 9 rfl rfl)
theorem dX7_rows_10 : decode cX7_rows 10 = .ok (.aload_n 0, 1) := dk_42 (dk_at dksX7_rows_0 10 rfl rfl)
theorem dX7_rows_11 : decode cX7_rows 11 = .ok (.iload_n 3, 1) := dk_29 (dk_at dksX7_rows_0 11 rfl rfl)
theorem dX7_rows_12 : decode cX7_rows 12 = .ok (.invokevirtual 143, 3) := dk_182 0 143 (dk_at dksX7_rows_0 12 rfl rfl)
theorem dX7_rows_15 : decode cX7_rows 15 = .ok (.ifCond .eq 7, 3) := dk_153 0 7 (dk_at dksX7_rows_0 15 rfl rfl)
theorem dX7_rows_18 : decode cX7_rows 18 = .ok (.iconst 1, 1) := dk_4 (dk_at dksX7_rows_0 18 rfl rfl)
theorem dX7_rows_19 : decode cX7_rows 19 = .ok (.goto 4, 3) := dk_167 0 4 (dk_at dksX7_rows_0 19 rfl rfl)
theorem dX7_rows_22 : decode cX7_rows 22 = .ok (.iconst 0, 1) := dk_3 (dk_at dksX7_rows_0 22 rfl rfl)
theorem dX7_rows_23 : decode cX7_rows 23 = .ok (.iadd, 1) := dk_96 (dk_at dksX7_rows_0 23 rfl rfl)
theorem dX7_rows_24 : decode cX7_rows 24 = .ok (.istore_n 2, 1) := dk_61 (dk_at dksX7_rows_1 0 rfl rfl)
theorem dX7_rows_25 : decode cX7_rows 25 = .ok (.iinc 3 1, 3) := dk_132 3 1 (dk_at dksX7_rows_1 1 rfl rfl)
theorem dX7_rows_28 : decode cX7_rows 28 = .ok (.goto (-24), 3) := dk_167 255 232 (dk_at dksX7_rows_1 4 rfl rfl)
theorem dX7_rows_31 : decode cX7_rows 31 = .ok (.iload_n 2, 1) := dk_28 (dk_at dksX7_rows_1 7 rfl rfl)
theorem dX7_rows_32 : decode cX7_rows 32 = .ok (.ireturn, 1) := dk_172 (dk_at dksX7_rows_1 8 rfl rfl)
abbrev cX7_hiddenBehind : ByteArray := prog_14_method_7_code
def yX7_hiddenBehind : MethodName := ⟨RX7, "hiddenBehind", "(I)I"⟩
def dkwX7_hiddenBehind_1 : List UInt8 := [162, 0, 21, 42, 27, 28, 96, 4, 96, 182, 0, 143, 154, 0, 9, 132, 2, 1, 167, 255, 226, 28, 172]
abbrev dktX7_hiddenBehind_1 : List UInt8 := dkwX7_hiddenBehind_1 ++ []
def dkwX7_hiddenBehind_0 : List UInt8 := [42, 27, 182, 0, 143, 154, 0, 5, 3, 172, 3, 61, 27, 28, 96, 4, 96, 42, 180, 0, 3, 182, 0, 25]
abbrev dktX7_hiddenBehind_0 : List UInt8 := dkwX7_hiddenBehind_0 ++ dktX7_hiddenBehind_1
theorem dksX7_hiddenBehind_0 : cX7_hiddenBehind.data.toList.drop 0 = dktX7_hiddenBehind_0 := by decide +kernel
theorem dksX7_hiddenBehind_1 : cX7_hiddenBehind.data.toList.drop 24 = dktX7_hiddenBehind_1 := dk_seg dksX7_hiddenBehind_0 24 rfl rfl
theorem dX7_hiddenBehind_0 : decode cX7_hiddenBehind 0 = .ok (.aload_n 0, 1) := dk_42 (dk_at dksX7_hiddenBehind_0 0 rfl rfl)
theorem dX7_hiddenBehind_1 : decode cX7_hiddenBehind 1 = .ok (.iload_n 1, 1) := dk_27 (dk_at dksX7_hiddenBehind_0 1 rfl rfl)
theorem dX7_hiddenBehind_2 : decode cX7_hiddenBehind 2 = .ok (.invokevirtual 143, 3) := dk_182 0 143 (dk_at dksX7_hiddenBehind_0 2 rfl rfl)
theorem dX7_hiddenBehind_5 : decode cX7_hiddenBehind 5 = .ok (.ifCond .ne 5, 3) := dk_154 0 5 (dk_at dksX7_hiddenBehind_0 5 rfl rfl)
theorem dX7_hiddenBehind_8 : decode cX7_hiddenBehind 8 = .ok (.iconst 0, 1) := dk_3 (dk_at dksX7_hiddenBehind_0 8 rfl rfl)
theorem dX7_hiddenBehind_9 : decode cX7_hiddenBehind 9 = .ok (.ireturn, 1) := dk_172 (dk_at dksX7_hiddenBehind_0 9 rfl rfl)
theorem dX7_hiddenBehind_10 : decode cX7_hiddenBehind 10 = .ok (.iconst 0, 1) := dk_3 (dk_at dksX7_hiddenBehind_0 10 rfl rfl)
theorem dX7_hiddenBehind_11 : decode cX7_hiddenBehind 11 = .ok (.istore_n 2, 1) := dk_61 (dk_at dksX7_hiddenBehind_0 11 rfl rfl)
theorem dX7_hiddenBehind_12 : decode cX7_hiddenBehind 12 = .ok (.iload_n 1, 1) := dk_27 (dk_at dksX7_hiddenBehind_0 12 rfl rfl)
theorem dX7_hiddenBehind_13 : decode cX7_hiddenBehind 13 = .ok (.iload_n 2, 1) := dk_28 (dk_at dksX7_hiddenBehind_0 13 rfl rfl)
theorem dX7_hiddenBehind_14 : decode cX7_hiddenBehind 14 = .ok (.iadd, 1) := dk_96 (dk_at dksX7_hiddenBehind_0 14 rfl rfl)
theorem dX7_hiddenBehind_15 : decode cX7_hiddenBehind 15 = .ok (.iconst 1, 1) := dk_4 (dk_at dksX7_hiddenBehind_0 15 rfl rfl)
theorem dX7_hiddenBehind_16 : decode cX7_hiddenBehind 16 = .ok (.iadd, 1) := dk_96 (dk_at dksX7_hiddenBehind_0 16 rfl rfl)
theorem dX7_hiddenBehind_17 : decode cX7_hiddenBehind 17 = .ok (.aload_n 0, 1) := dk_42 (dk_at dksX7_hiddenBehind_0 17 rfl rfl)
theorem dX7_hiddenBehind_18 : decode cX7_hiddenBehind 18 = .ok (.getfield 3, 3) := dk_180 0 3 (dk_at dksX7_hiddenBehind_0 18 rfl rfl)
theorem dX7_hiddenBehind_21 : decode cX7_hiddenBehind 21 = .ok (.invokevirtual 25, 3) := dk_182 0 25 (dk_at dksX7_hiddenBehind_0 21 rfl rfl)
theorem dX7_hiddenBehind_24 : decode cX7_hiddenBehind 24 = .ok (.if_icmp .ge 21, 3) := dk_162 0 21 (dk_at dksX7_hiddenBehind_1 0 rfl rfl)
theorem dX7_hiddenBehind_27 : decode cX7_hiddenBehind 27 = .ok (.aload_n 0, 1) := dk_42 (dk_at dksX7_hiddenBehind_1 3 rfl rfl)
theorem dX7_hiddenBehind_28 : decode cX7_hiddenBehind 28 = .ok (.iload_n 1, 1) := dk_27 (dk_at dksX7_hiddenBehind_1 4 rfl rfl)
theorem dX7_hiddenBehind_29 : decode cX7_hiddenBehind 29 = .ok (.iload_n 2, 1) := dk_28 (dk_at dksX7_hiddenBehind_1 5 rfl rfl)
theorem dX7_hiddenBehind_30 : decode cX7_hiddenBehind 30 = .ok (.iadd, 1) := dk_96 (dk_at dksX7_hiddenBehind_1 6 rfl rfl)
theorem dX7_hiddenBehind_31 : decode cX7_hiddenBehind 31 = .ok (.iconst 1, 1) := dk_4 (dk_at dksX7_hiddenBehind_1 7 rfl rfl)
theorem dX7_hiddenBehind_32 : decode cX7_hiddenBehind 32 = .ok (.iadd, 1) := dk_96 (dk_at dksX7_hiddenBehind_1 8 rfl rfl)
theorem dX7_hiddenBehind_33 : decode cX7_hiddenBehind 33 = .ok (.invokevirtual 143, 3) := dk_182 0 143 (dk_at dksX7_hiddenBehind_1 9 rfl rfl)
theorem dX7_hiddenBehind_36 : decode cX7_hiddenBehind 36 = .ok (.ifCond .ne 9, 3) := dk_154 0 9 (dk_at dksX7_hiddenBehind_1 12 rfl rfl)
theorem dX7_hiddenBehind_39 : decode cX7_hiddenBehind 39 = .ok (.iinc 2 1, 3) := dk_132 2 1 (dk_at dksX7_hiddenBehind_1 15 rfl rfl)
theorem dX7_hiddenBehind_42 : decode cX7_hiddenBehind 42 = .ok (.goto (-30), 3) := dk_167 255 226 (dk_at dksX7_hiddenBehind_1 18 rfl rfl)
theorem dX7_hiddenBehind_45 : decode cX7_hiddenBehind 45 = .ok (.iload_n 2, 1) := dk_28 (dk_at dksX7_hiddenBehind_1 21 rfl rfl)
theorem dX7_hiddenBehind_46 : decode cX7_hiddenBehind 46 = .ok (.ireturn, 1) := dk_172 (dk_at dksX7_hiddenBehind_1 22 rfl rfl)
abbrev cX7_begun : ByteArray := prog_14_method_10_code
def yX7_begun : MethodName := ⟨RX7, "begun", "(I)I"⟩
def dkwX7_begun_2 : List UInt8 := [3, 96, 61, 167, 255, 219, 28, 172]
abbrev dktX7_begun_2 : List UInt8 := dkwX7_begun_2 ++ []
def dkwX7_begun_1 : List UInt8 := [185, 0, 48, 1, 0, 192, 0, 92, 58, 4, 28, 25, 4, 182, 0, 105, 27, 160, 0, 7, 4, 167, 0, 4]
abbrev dktX7_begun_1 : List UInt8 := dkwX7_begun_1 ++ dktX7_begun_2
def dkwX7_begun_0 : List UInt8 := [3, 61, 42, 180, 0, 22, 185, 0, 84, 1, 0, 78, 45, 185, 0, 42, 1, 0, 153, 0, 34, 45]
abbrev dktX7_begun_0 : List UInt8 := dkwX7_begun_0 ++ dktX7_begun_1
theorem dksX7_begun_0 : cX7_begun.data.toList.drop 0 = dktX7_begun_0 := by decide +kernel
theorem dksX7_begun_1 : cX7_begun.data.toList.drop 22 = dktX7_begun_1 := dk_seg dksX7_begun_0 22 rfl rfl
theorem dksX7_begun_2 : cX7_begun.data.toList.drop 46 = dktX7_begun_2 := dk_seg dksX7_begun_1 24 rfl rfl
theorem dX7_begun_0 : decode cX7_begun 0 = .ok (.iconst 0, 1) := dk_3 (dk_at dksX7_begun_0 0 rfl rfl)
theorem dX7_begun_1 : decode cX7_begun 1 = .ok (.istore_n 2, 1) := dk_61 (dk_at dksX7_begun_0 1 rfl rfl)
theorem dX7_begun_2 : decode cX7_begun 2 = .ok (.aload_n 0, 1) := dk_42 (dk_at dksX7_begun_0 2 rfl rfl)
theorem dX7_begun_3 : decode cX7_begun 3 = .ok (.getfield 22, 3) := dk_180 0 22 (dk_at dksX7_begun_0 3 rfl rfl)
theorem dX7_begun_6 : decode cX7_begun 6 = .ok (.invokeinterface 84 1, 5) := by decide +kernel
theorem dX7_begun_11 : decode cX7_begun 11 = .ok (.astore_n 3, 1) := dk_78 (dk_at dksX7_begun_0 11 rfl rfl)
theorem dX7_begun_12 : decode cX7_begun 12 = .ok (.aload_n 3, 1) := dk_45 (dk_at dksX7_begun_0 12 rfl rfl)
theorem dX7_begun_13 : decode cX7_begun 13 = .ok (.invokeinterface 42 1, 5) := by decide +kernel
theorem dX7_begun_18 : decode cX7_begun 18 = .ok (.ifCond .eq 34, 3) := dk_153 0 34 (dk_at dksX7_begun_0 18 rfl rfl)
theorem dX7_begun_21 : decode cX7_begun 21 = .ok (.aload_n 3, 1) := dk_45 (dk_at dksX7_begun_0 21 rfl rfl)
theorem dX7_begun_22 : decode cX7_begun 22 = .ok (.invokeinterface 48 1, 5) := by decide +kernel
theorem dX7_begun_27 : decode cX7_begun 27 = .ok (.checkcast 92, 3) := dk_192 0 92 (dk_at dksX7_begun_1 5 rfl rfl)
theorem dX7_begun_30 : decode cX7_begun 30 = .ok (.astore 4, 2) := dk_58 4 (dk_at dksX7_begun_1 8 rfl rfl)
theorem dX7_begun_32 : decode cX7_begun 32 = .ok (.iload_n 2, 1) := dk_28 (dk_at dksX7_begun_1 10 rfl rfl)
theorem dX7_begun_33 : decode cX7_begun 33 = .ok (.aload 4, 2) := dk_25 4 (dk_at dksX7_begun_1 11 rfl rfl)
theorem dX7_begun_35 : decode cX7_begun 35 = .ok (.invokevirtual 105, 3) := dk_182 0 105 (dk_at dksX7_begun_1 13 rfl rfl)
theorem dX7_begun_38 : decode cX7_begun 38 = .ok (.iload_n 1, 1) := dk_27 (dk_at dksX7_begun_1 16 rfl rfl)
theorem dX7_begun_39 : decode cX7_begun 39 = .ok (.if_icmp .ne 7, 3) := dk_160 0 7 (dk_at dksX7_begun_1 17 rfl rfl)
theorem dX7_begun_42 : decode cX7_begun 42 = .ok (.iconst 1, 1) := dk_4 (dk_at dksX7_begun_1 20 rfl rfl)
theorem dX7_begun_43 : decode cX7_begun 43 = .ok (.goto 4, 3) := dk_167 0 4 (dk_at dksX7_begun_1 21 rfl rfl)
theorem dX7_begun_46 : decode cX7_begun 46 = .ok (.iconst 0, 1) := dk_3 (dk_at dksX7_begun_2 0 rfl rfl)
theorem dX7_begun_47 : decode cX7_begun 47 = .ok (.iadd, 1) := dk_96 (dk_at dksX7_begun_2 1 rfl rfl)
theorem dX7_begun_48 : decode cX7_begun 48 = .ok (.istore_n 2, 1) := dk_61 (dk_at dksX7_begun_2 2 rfl rfl)
theorem dX7_begun_49 : decode cX7_begun 49 = .ok (.goto (-37), 3) := dk_167 255 219 (dk_at dksX7_begun_2 3 rfl rfl)
theorem dX7_begun_52 : decode cX7_begun 52 = .ok (.iload_n 2, 1) := dk_28 (dk_at dksX7_begun_2 6 rfl rfl)
theorem dX7_begun_53 : decode cX7_begun 53 = .ok (.ireturn, 1) := dk_172 (dk_at dksX7_begun_2 7 rfl rfl)
abbrev cX7_lineOfRow : ByteArray := prog_14_method_6_code
def yX7_lineOfRow : MethodName := ⟨RX7, "lineOfRow", "(I)I"⟩
def dkwX7_lineOfRow_1 : List UInt8 := [4, 167, 0, 4, 3, 100, 61, 28, 154, 0, 5, 29, 172, 132, 3, 1, 167, 255, 220, 2, 172]
abbrev dktX7_lineOfRow_1 : List UInt8 := dkwX7_lineOfRow_1 ++ []
def dkwX7_lineOfRow_0 : List UInt8 := [27, 61, 3, 62, 29, 42, 180, 0, 3, 182, 0, 25, 162, 0, 31, 28, 42, 29, 182, 0, 143, 153, 0, 7]
abbrev dktX7_lineOfRow_0 : List UInt8 := dkwX7_lineOfRow_0 ++ dktX7_lineOfRow_1
theorem dksX7_lineOfRow_0 : cX7_lineOfRow.data.toList.drop 0 = dktX7_lineOfRow_0 := by decide +kernel
theorem dksX7_lineOfRow_1 : cX7_lineOfRow.data.toList.drop 24 = dktX7_lineOfRow_1 := dk_seg dksX7_lineOfRow_0 24 rfl rfl
theorem dX7_lineOfRow_0 : decode cX7_lineOfRow 0 = .ok (.iload_n 1, 1) := dk_27 (dk_at dksX7_lineOfRow_0 0 rfl rfl)
theorem dX7_lineOfRow_1 : decode cX7_lineOfRow 1 = .ok (.istore_n 2, 1) := dk_61 (dk_at dksX7_lineOfRow_0 1 rfl rfl)
theorem dX7_lineOfRow_2 : decode cX7_lineOfRow 2 = .ok (.iconst 0, 1) := dk_3 (dk_at dksX7_lineOfRow_0 2 rfl rfl)
theorem dX7_lineOfRow_3 : decode cX7_lineOfRow 3 = .ok (.istore_n 3, 1) := dk_62 (dk_at dksX7_lineOfRow_0 3 rfl rfl)
theorem dX7_lineOfRow_4 : decode cX7_lineOfRow 4 = .ok (.iload_n 3, 1) := dk_29 (dk_at dksX7_lineOfRow_0 4 rfl rfl)
theorem dX7_lineOfRow_5 : decode cX7_lineOfRow 5 = .ok (.aload_n 0, 1) := dk_42 (dk_at dksX7_lineOfRow_0 5 rfl rfl)
theorem dX7_lineOfRow_6 : decode cX7_lineOfRow 6 = .ok (.getfield 3, 3) := dk_180 0 3 (dk_at dksX7_lineOfRow_0 6 rfl rfl)
theorem dX7_lineOfRow_9 : decode cX7_lineOfRow 9 = .ok (.invokevirtual 25, 3) := dk_182 0 25 (dk_at dksX7_lineOfRow_0 9 rfl rfl)
theorem dX7_lineOfRow_12 : decode cX7_lineOfRow 12 = .ok (.if_icmp .ge 31, 3) := dk_162 0 31 (dk_at dksX7_lineOfRow_0 12 rfl rfl)
theorem dX7_lineOfRow_15 : decode cX7_lineOfRow 15 = .ok (.iload_n 2, 1) := dk_28 (dk_at dksX7_lineOfRow_0 15 rfl rfl)
theorem dX7_lineOfRow_16 : decode cX7_lineOfRow 16 = .ok (.aload_n 0, 1) := dk_42 (dk_at dksX7_lineOfRow_0 16 rfl rfl)
theorem dX7_lineOfRow_17 : decode cX7_lineOfRow 17 = .ok (.iload_n 3, 1) := dk_29 (dk_at dksX7_lineOfRow_0 17 rfl rfl)
theorem dX7_lineOfRow_18 : decode cX7_lineOfRow 18 = .ok (.invokevirtual 143, 3) := dk_182 0 143 (dk_at dksX7_lineOfRow_0 18 rfl rfl)
theorem dX7_lineOfRow_21 : decode cX7_lineOfRow 21 = .ok (.ifCond .eq 7, 3) := dk_153 0 7 (dk_at dksX7_lineOfRow_0 21 rfl rfl)
theorem dX7_lineOfRow_24 : decode cX7_lineOfRow 24 = .ok (.iconst 1, 1) := dk_4 (dk_at dksX7_lineOfRow_1 0 rfl rfl)
theorem dX7_lineOfRow_25 : decode cX7_lineOfRow 25 = .ok (.goto 4, 3) := dk_167 0 4 (dk_at dksX7_lineOfRow_1 1 rfl rfl)
theorem dX7_lineOfRow_28 : decode cX7_lineOfRow 28 = .ok (.iconst 0, 1) := dk_3 (dk_at dksX7_lineOfRow_1 4 rfl rfl)
theorem dX7_lineOfRow_29 : decode cX7_lineOfRow 29 = .ok (.isub, 1) := dk_100 (dk_at dksX7_lineOfRow_1 5 rfl rfl)
theorem dX7_lineOfRow_30 : decode cX7_lineOfRow 30 = .ok (.istore_n 2, 1) := dk_61 (dk_at dksX7_lineOfRow_1 6 rfl rfl)
theorem dX7_lineOfRow_31 : decode cX7_lineOfRow 31 = .ok (.iload_n 2, 1) := dk_28 (dk_at dksX7_lineOfRow_1 7 rfl rfl)
theorem dX7_lineOfRow_32 : decode cX7_lineOfRow 32 = .ok (.ifCond .ne 5, 3) := dk_154 0 5 (dk_at dksX7_lineOfRow_1 8 rfl rfl)
theorem dX7_lineOfRow_35 : decode cX7_lineOfRow 35 = .ok (.iload_n 3, 1) := dk_29 (dk_at dksX7_lineOfRow_1 11 rfl rfl)
theorem dX7_lineOfRow_36 : decode cX7_lineOfRow 36 = .ok (.ireturn, 1) := dk_172 (dk_at dksX7_lineOfRow_1 12 rfl rfl)
theorem dX7_lineOfRow_37 : decode cX7_lineOfRow 37 = .ok (.iinc 3 1, 3) := dk_132 3 1 (dk_at dksX7_lineOfRow_1 13 rfl rfl)
theorem dX7_lineOfRow_40 : decode cX7_lineOfRow 40 = .ok (.goto (-36), 3) := dk_167 255 220 (dk_at dksX7_lineOfRow_1 16 rfl rfl)
theorem dX7_lineOfRow_43 : decode cX7_lineOfRow 43 = .ok (.iconst (-1), 1) := dk_2 (dk_at dksX7_lineOfRow_1 19 rfl rfl)
theorem dX7_lineOfRow_44 : decode cX7_lineOfRow 44 = .ok (.ireturn, 1) := dk_172 (dk_at dksX7_lineOfRow_1 20 rfl rfl)
abbrev cX7_innermost : ByteArray := prog_14_method_11_code
def yX7_innermost : MethodName := ⟨RX7, "innermost", "(I)LFoldLister$Region;"⟩
def dkwX7_innermost_2 : List UInt8 := [25, 4, 180, 0, 164, 44, 180, 0, 164, 164, 0, 6, 25, 4, 77, 167, 255, 208, 44, 176]
abbrev dktX7_innermost_2 : List UInt8 := dkwX7_innermost_2 ++ []
def dkwX7_innermost_1 : List UInt8 := [185, 0, 48, 1, 0, 192, 0, 92, 58, 4, 25, 4, 27, 182, 0, 161, 153, 0, 22, 44, 198, 0, 15]
abbrev dktX7_innermost_1 : List UInt8 := dkwX7_innermost_1 ++ dktX7_innermost_2
def dkwX7_innermost_0 : List UInt8 := [1, 77, 42, 180, 0, 22, 185, 0, 84, 1, 0, 78, 45, 185, 0, 42, 1, 0, 153, 0, 45, 45]
abbrev dktX7_innermost_0 : List UInt8 := dkwX7_innermost_0 ++ dktX7_innermost_1
theorem dksX7_innermost_0 : cX7_innermost.data.toList.drop 0 = dktX7_innermost_0 := by decide +kernel
theorem dksX7_innermost_1 : cX7_innermost.data.toList.drop 22 = dktX7_innermost_1 := dk_seg dksX7_innermost_0 22 rfl rfl
theorem dksX7_innermost_2 : cX7_innermost.data.toList.drop 45 = dktX7_innermost_2 := dk_seg dksX7_innermost_1 23 rfl rfl
theorem dX7_innermost_0 : decode cX7_innermost 0 = .ok (.aconst_null, 1) := dk_1 (dk_at dksX7_innermost_0 0 rfl rfl)
theorem dX7_innermost_1 : decode cX7_innermost 1 = .ok (.astore_n 2, 1) := dk_77 (dk_at dksX7_innermost_0 1 rfl rfl)
theorem dX7_innermost_2 : decode cX7_innermost 2 = .ok (.aload_n 0, 1) := dk_42 (dk_at dksX7_innermost_0 2 rfl rfl)
theorem dX7_innermost_3 : decode cX7_innermost 3 = .ok (.getfield 22, 3) := dk_180 0 22 (dk_at dksX7_innermost_0 3 rfl rfl)
theorem dX7_innermost_6 : decode cX7_innermost 6 = .ok (.invokeinterface 84 1, 5) := by decide +kernel
theorem dX7_innermost_11 : decode cX7_innermost 11 = .ok (.astore_n 3, 1) := dk_78 (dk_at dksX7_innermost_0 11 rfl rfl)
theorem dX7_innermost_12 : decode cX7_innermost 12 = .ok (.aload_n 3, 1) := dk_45 (dk_at dksX7_innermost_0 12 rfl rfl)
theorem dX7_innermost_13 : decode cX7_innermost 13 = .ok (.invokeinterface 42 1, 5) := by decide +kernel
theorem dX7_innermost_18 : decode cX7_innermost 18 = .ok (.ifCond .eq 45, 3) := dk_153 0 45 (dk_at dksX7_innermost_0 18 rfl rfl)
theorem dX7_innermost_21 : decode cX7_innermost 21 = .ok (.aload_n 3, 1) := dk_45 (dk_at dksX7_innermost_0 21 rfl rfl)
theorem dX7_innermost_22 : decode cX7_innermost 22 = .ok (.invokeinterface 48 1, 5) := by decide +kernel
theorem dX7_innermost_27 : decode cX7_innermost 27 = .ok (.checkcast 92, 3) := dk_192 0 92 (dk_at dksX7_innermost_1 5 rfl rfl)
theorem dX7_innermost_30 : decode cX7_innermost 30 = .ok (.astore 4, 2) := dk_58 4 (dk_at dksX7_innermost_1 8 rfl rfl)
theorem dX7_innermost_32 : decode cX7_innermost 32 = .ok (.aload 4, 2) := dk_25 4 (dk_at dksX7_innermost_1 10 rfl rfl)
theorem dX7_innermost_34 : decode cX7_innermost 34 = .ok (.iload_n 1, 1) := dk_27 (dk_at dksX7_innermost_1 12 rfl rfl)
theorem dX7_innermost_35 : decode cX7_innermost 35 = .ok (.invokevirtual 161, 3) := dk_182 0 161 (dk_at dksX7_innermost_1 13 rfl rfl)
theorem dX7_innermost_38 : decode cX7_innermost 38 = .ok (.ifCond .eq 22, 3) := dk_153 0 22 (dk_at dksX7_innermost_1 16 rfl rfl)
theorem dX7_innermost_41 : decode cX7_innermost 41 = .ok (.aload_n 2, 1) := dk_44 (dk_at dksX7_innermost_1 19 rfl rfl)
theorem dX7_innermost_42 : decode cX7_innermost 42 = .ok (.ifnull 15, 3) := dk_198 0 15 (dk_at dksX7_innermost_1 20 rfl rfl)
theorem dX7_innermost_45 : decode cX7_innermost 45 = .ok (.aload 4, 2) := dk_25 4 (dk_at dksX7_innermost_2 0 rfl rfl)
theorem dX7_innermost_47 : decode cX7_innermost 47 = .ok (.getfield 164, 3) := dk_180 0 164 (dk_at dksX7_innermost_2 2 rfl rfl)
theorem dX7_innermost_50 : decode cX7_innermost 50 = .ok (.aload_n 2, 1) := dk_44 (dk_at dksX7_innermost_2 5 rfl rfl)
theorem dX7_innermost_51 : decode cX7_innermost 51 = .ok (.getfield 164, 3) := dk_180 0 164 (dk_at dksX7_innermost_2 6 rfl rfl)
theorem dX7_innermost_54 : decode cX7_innermost 54 = .ok (.if_icmp .le 6, 3) := dk_164 0 6 (dk_at dksX7_innermost_2 9 rfl rfl)
theorem dX7_innermost_57 : decode cX7_innermost 57 = .ok (.aload 4, 2) := dk_25 4 (dk_at dksX7_innermost_2 12 rfl rfl)
theorem dX7_innermost_59 : decode cX7_innermost 59 = .ok (.astore_n 2, 1) := dk_77 (dk_at dksX7_innermost_2 14 rfl rfl)
theorem dX7_innermost_60 : decode cX7_innermost 60 = .ok (.goto (-48), 3) := dk_167 255 208 (dk_at dksX7_innermost_2 15 rfl rfl)
theorem dX7_innermost_63 : decode cX7_innermost 63 = .ok (.aload_n 2, 1) := dk_44 (dk_at dksX7_innermost_2 18 rfl rfl)
theorem dX7_innermost_64 : decode cX7_innermost 64 = .ok (.areturn, 1) := dk_176 (dk_at dksX7_innermost_2 19 rfl rfl)
abbrev cX7_outermost : ByteArray := prog_14_method_12_code
def yX7_outermost : MethodName := ⟨RX7, "outermost", "(I)LFoldLister$Region;"⟩
def dkwX7_outermost_3 : List UInt8 := [77, 167, 255, 199, 44, 176]
abbrev dktX7_outermost_3 : List UInt8 := dkwX7_outermost_3 ++ []
def dkwX7_outermost_2 : List UInt8 := [182, 0, 157, 153, 0, 22, 44, 198, 0, 15, 25, 4, 180, 0, 164, 44, 180, 0, 164, 162, 0, 6, 25, 4]
abbrev dktX7_outermost_2 : List UInt8 := dkwX7_outermost_2 ++ dktX7_outermost_3
def dkwX7_outermost_1 : List UInt8 := [185, 0, 48, 1, 0, 192, 0, 92, 58, 4, 25, 4, 27, 182, 0, 161, 153, 0, 31, 42, 25, 4]
abbrev dktX7_outermost_1 : List UInt8 := dkwX7_outermost_1 ++ dktX7_outermost_2
def dkwX7_outermost_0 : List UInt8 := [1, 77, 42, 180, 0, 22, 185, 0, 84, 1, 0, 78, 45, 185, 0, 42, 1, 0, 153, 0, 54, 45]
abbrev dktX7_outermost_0 : List UInt8 := dkwX7_outermost_0 ++ dktX7_outermost_1
theorem dksX7_outermost_0 : cX7_outermost.data.toList.drop 0 = dktX7_outermost_0 := by decide +kernel
theorem dksX7_outermost_1 : cX7_outermost.data.toList.drop 22 = dktX7_outermost_1 := dk_seg dksX7_outermost_0 22 rfl rfl
theorem dksX7_outermost_2 : cX7_outermost.data.toList.drop 44 = dktX7_outermost_2 := dk_seg dksX7_outermost_1 22 rfl rfl
theorem dksX7_outermost_3 : cX7_outermost.data.toList.drop 68 = dktX7_outermost_3 := dk_seg dksX7_outermost_2 24 rfl rfl
theorem dX7_outermost_0 : decode cX7_outermost 0 = .ok (.aconst_null, 1) := dk_1 (dk_at dksX7_outermost_0 0 rfl rfl)
theorem dX7_outermost_1 : decode cX7_outermost 1 = .ok (.astore_n 2, 1) := dk_77 (dk_at dksX7_outermost_0 1 rfl rfl)
theorem dX7_outermost_2 : decode cX7_outermost 2 = .ok (.aload_n 0, 1) := dk_42 (dk_at dksX7_outermost_0 2 rfl rfl)
theorem dX7_outermost_3 : decode cX7_outermost 3 = .ok (.getfield 22, 3) := dk_180 0 22 (dk_at dksX7_outermost_0 3 rfl rfl)
theorem dX7_outermost_6 : decode cX7_outermost 6 = .ok (.invokeinterface 84 1, 5) := by decide +kernel
theorem dX7_outermost_11 : decode cX7_outermost 11 = .ok (.astore_n 3, 1) := dk_78 (dk_at dksX7_outermost_0 11 rfl rfl)
theorem dX7_outermost_12 : decode cX7_outermost 12 = .ok (.aload_n 3, 1) := dk_45 (dk_at dksX7_outermost_0 12 rfl rfl)
theorem dX7_outermost_13 : decode cX7_outermost 13 = .ok (.invokeinterface 42 1, 5) := by decide +kernel
theorem dX7_outermost_18 : decode cX7_outermost 18 = .ok (.ifCond .eq 54, 3) := dk_153 0 54 (dk_at dksX7_outermost_0 18 rfl rfl)
theorem dX7_outermost_21 : decode cX7_outermost 21 = .ok (.aload_n 3, 1) := dk_45 (dk_at dksX7_outermost_0 21 rfl rfl)
theorem dX7_outermost_22 : decode cX7_outermost 22 = .ok (.invokeinterface 48 1, 5) := by decide +kernel
theorem dX7_outermost_27 : decode cX7_outermost 27 = .ok (.checkcast 92, 3) := dk_192 0 92 (dk_at dksX7_outermost_1 5 rfl rfl)
theorem dX7_outermost_30 : decode cX7_outermost 30 = .ok (.astore 4, 2) := dk_58 4 (dk_at dksX7_outermost_1 8 rfl rfl)
theorem dX7_outermost_32 : decode cX7_outermost 32 = .ok (.aload 4, 2) := dk_25 4 (dk_at dksX7_outermost_1 10 rfl rfl)
theorem dX7_outermost_34 : decode cX7_outermost 34 = .ok (.iload_n 1, 1) := dk_27 (dk_at dksX7_outermost_1 12 rfl rfl)
theorem dX7_outermost_35 : decode cX7_outermost 35 = .ok (.invokevirtual 161, 3) := dk_182 0 161 (dk_at dksX7_outermost_1 13 rfl rfl)
theorem dX7_outermost_38 : decode cX7_outermost 38 = .ok (.ifCond .eq 31, 3) := dk_153 0 31 (dk_at dksX7_outermost_1 16 rfl rfl)
theorem dX7_outermost_41 : decode cX7_outermost 41 = .ok (.aload_n 0, 1) := dk_42 (dk_at dksX7_outermost_1 19 rfl rfl)
theorem dX7_outermost_42 : decode cX7_outermost 42 = .ok (.aload 4, 2) := dk_25 4 (dk_at dksX7_outermost_1 20 rfl rfl)
theorem dX7_outermost_44 : decode cX7_outermost 44 = .ok (.invokevirtual 157, 3) := dk_182 0 157 (dk_at dksX7_outermost_2 0 rfl rfl)
theorem dX7_outermost_47 : decode cX7_outermost 47 = .ok (.ifCond .eq 22, 3) := dk_153 0 22 (dk_at dksX7_outermost_2 3 rfl rfl)
theorem dX7_outermost_50 : decode cX7_outermost 50 = .ok (.aload_n 2, 1) := dk_44 (dk_at dksX7_outermost_2 6 rfl rfl)
theorem dX7_outermost_51 : decode cX7_outermost 51 = .ok (.ifnull 15, 3) := dk_198 0 15 (dk_at dksX7_outermost_2 7 rfl rfl)
theorem dX7_outermost_54 : decode cX7_outermost 54 = .ok (.aload 4, 2) := dk_25 4 (dk_at dksX7_outermost_2 10 rfl rfl)
theorem dX7_outermost_56 : decode cX7_outermost 56 = .ok (.getfield 164, 3) := dk_180 0 164 (dk_at dksX7_outermost_2 12 rfl rfl)
theorem dX7_outermost_59 : decode cX7_outermost 59 = .ok (.aload_n 2, 1) := dk_44 (dk_at dksX7_outermost_2 15 rfl rfl)
theorem dX7_outermost_60 : decode cX7_outermost 60 = .ok (.getfield 164, 3) := dk_180 0 164 (dk_at dksX7_outermost_2 16 rfl rfl)
theorem dX7_outermost_63 : decode cX7_outermost 63 = .ok (.if_icmp .ge 6, 3) := dk_162 0 6 (dk_at dksX7_outermost_2 19 rfl rfl)
theorem dX7_outermost_66 : decode cX7_outermost 66 = .ok (.aload 4, 2) := dk_25 4 (dk_at dksX7_outermost_2 22 rfl rfl)
theorem dX7_outermost_68 : decode cX7_outermost 68 = .ok (.astore_n 2, 1) := dk_77 (dk_at dksX7_outermost_3 0 rfl rfl)
theorem dX7_outermost_69 : decode cX7_outermost 69 = .ok (.goto (-57), 3) := dk_167 255 199 (dk_at dksX7_outermost_3 1 rfl rfl)
theorem dX7_outermost_72 : decode cX7_outermost 72 = .ok (.aload_n 2, 1) := dk_44 (dk_at dksX7_outermost_3 4 rfl rfl)
theorem dX7_outermost_73 : decode cX7_outermost 73 = .ok (.areturn, 1) := dk_176 (dk_at dksX7_outermost_3 5 rfl rfl)
abbrev cX7_bracketAt : ByteArray := prog_14_method_14_code
def yX7_bracketAt : MethodName := ⟨RX7, "bracketAt", "(II)LFoldLister$Bracket;"⟩
def dkwX7_bracketAt_2 : List UInt8 := [28, 160, 0, 6, 25, 4, 176, 167, 255, 215, 1, 176]
abbrev dktX7_bracketAt_2 : List UInt8 := dkwX7_bracketAt_2 ++ []
def dkwX7_bracketAt_1 : List UInt8 := [185, 0, 48, 1, 0, 192, 0, 52, 58, 4, 25, 4, 180, 0, 88, 27, 160, 0, 15, 25, 4, 180, 0, 170]
abbrev dktX7_bracketAt_1 : List UInt8 := dkwX7_bracketAt_1 ++ dktX7_bracketAt_2
def dkwX7_bracketAt_0 : List UInt8 := [42, 180, 0, 18, 185, 0, 84, 1, 0, 78, 45, 185, 0, 42, 1, 0, 153, 0, 38, 45]
abbrev dktX7_bracketAt_0 : List UInt8 := dkwX7_bracketAt_0 ++ dktX7_bracketAt_1
theorem dksX7_bracketAt_0 : cX7_bracketAt.data.toList.drop 0 = dktX7_bracketAt_0 := by decide +kernel
theorem dksX7_bracketAt_1 : cX7_bracketAt.data.toList.drop 20 = dktX7_bracketAt_1 := dk_seg dksX7_bracketAt_0 20 rfl rfl
theorem dksX7_bracketAt_2 : cX7_bracketAt.data.toList.drop 44 = dktX7_bracketAt_2 := dk_seg dksX7_bracketAt_1 24 rfl rfl
theorem dX7_bracketAt_0 : decode cX7_bracketAt 0 = .ok (.aload_n 0, 1) := dk_42 (dk_at dksX7_bracketAt_0 0 rfl rfl)
theorem dX7_bracketAt_1 : decode cX7_bracketAt 1 = .ok (.getfield 18, 3) := dk_180 0 18 (dk_at dksX7_bracketAt_0 1 rfl rfl)
theorem dX7_bracketAt_4 : decode cX7_bracketAt 4 = .ok (.invokeinterface 84 1, 5) := by decide +kernel
theorem dX7_bracketAt_9 : decode cX7_bracketAt 9 = .ok (.astore_n 3, 1) := dk_78 (dk_at dksX7_bracketAt_0 9 rfl rfl)
theorem dX7_bracketAt_10 : decode cX7_bracketAt 10 = .ok (.aload_n 3, 1) := dk_45 (dk_at dksX7_bracketAt_0 10 rfl rfl)
theorem dX7_bracketAt_11 : decode cX7_bracketAt 11 = .ok (.invokeinterface 42 1, 5) := by decide +kernel
theorem dX7_bracketAt_16 : decode cX7_bracketAt 16 = .ok (.ifCond .eq 38, 3) := dk_153 0 38 (dk_at dksX7_bracketAt_0 16 rfl rfl)
theorem dX7_bracketAt_19 : decode cX7_bracketAt 19 = .ok (.aload_n 3, 1) := dk_45 (dk_at dksX7_bracketAt_0 19 rfl rfl)
theorem dX7_bracketAt_20 : decode cX7_bracketAt 20 = .ok (.invokeinterface 48 1, 5) := by decide +kernel
theorem dX7_bracketAt_25 : decode cX7_bracketAt 25 = .ok (.checkcast 52, 3) := dk_192 0 52 (dk_at dksX7_bracketAt_1 5 rfl rfl)
theorem dX7_bracketAt_28 : decode cX7_bracketAt 28 = .ok (.astore 4, 2) := dk_58 4 (dk_at dksX7_bracketAt_1 8 rfl rfl)
theorem dX7_bracketAt_30 : decode cX7_bracketAt 30 = .ok (.aload 4, 2) := dk_25 4 (dk_at dksX7_bracketAt_1 10 rfl rfl)
theorem dX7_bracketAt_32 : decode cX7_bracketAt 32 = .ok (.getfield 88, 3) := dk_180 0 88 (dk_at dksX7_bracketAt_1 12 rfl rfl)
theorem dX7_bracketAt_35 : decode cX7_bracketAt 35 = .ok (.iload_n 1, 1) := dk_27 (dk_at dksX7_bracketAt_1 15 rfl rfl)
theorem dX7_bracketAt_36 : decode cX7_bracketAt 36 = .ok (.if_icmp .ne 15, 3) := dk_160 0 15 (dk_at dksX7_bracketAt_1 16 rfl rfl)
theorem dX7_bracketAt_39 : decode cX7_bracketAt 39 = .ok (.aload 4, 2) := dk_25 4 (dk_at dksX7_bracketAt_1 19 rfl rfl)
theorem dX7_bracketAt_41 : decode cX7_bracketAt 41 = .ok (.getfield 170, 3) := dk_180 0 170 (dk_at dksX7_bracketAt_1 21 rfl rfl)
theorem dX7_bracketAt_44 : decode cX7_bracketAt 44 = .ok (.iload_n 2, 1) := dk_28 (dk_at dksX7_bracketAt_2 0 rfl rfl)
theorem dX7_bracketAt_45 : decode cX7_bracketAt 45 = .ok (.if_icmp .ne 6, 3) := dk_160 0 6 (dk_at dksX7_bracketAt_2 1 rfl rfl)
theorem dX7_bracketAt_48 : decode cX7_bracketAt 48 = .ok (.aload 4, 2) := dk_25 4 (dk_at dksX7_bracketAt_2 4 rfl rfl)
theorem dX7_bracketAt_50 : decode cX7_bracketAt 50 = .ok (.areturn, 1) := dk_176 (dk_at dksX7_bracketAt_2 6 rfl rfl)
theorem dX7_bracketAt_51 : decode cX7_bracketAt 51 = .ok (.goto (-41), 3) := dk_167 255 215 (dk_at dksX7_bracketAt_2 7 rfl rfl)
theorem dX7_bracketAt_54 : decode cX7_bracketAt 54 = .ok (.aconst_null, 1) := dk_1 (dk_at dksX7_bracketAt_2 10 rfl rfl)
theorem dX7_bracketAt_55 : decode cX7_bracketAt 55 = .ok (.areturn, 1) := dk_176 (dk_at dksX7_bracketAt_2 11 rfl rfl)
theorem q136 : (Jvm.Cond.initialized "FoldLister$Page$Layout") ∈ lw_all := lw_g (lw_at lw_m1 33 rfl) rfl
theorem q235 : (Jvm.Cond.fieldLinkNest "FoldLister$Page$Layout" (146 : Nat) "FoldLister$Page" "lines" "Ljava/util/List;" "FoldLister") ∈ lw_tbl := lw_at lw_m1 132 rfl
theorem q746 : (Jvm.Cond.instantiable "FoldLister$Page$Layout" (5 : Nat)) ∈ lw_all := lw_g (lw_at lw_m3 163 rfl) rfl
theorem q748 : (Jvm.Cond.instanceMethod ({ cls := "FoldLister$Page$Layout", name := "<init>", desc := "(LFoldLister$Page;)V" } : Jvm.MethodName)) ∈ lw_all := lw_g (lw_at lw_m3 165 rfl) rfl
theorem q749 : (Jvm.Cond.code ({ cls := "FoldLister$Page$Layout", name := "<init>", desc := "(LFoldLister$Page;)V" } : Jvm.MethodName) prog_14_method_1_code (6 : Nat) (Option.none : Option Jvm.ClassFile.FieldType)) ∈ lw_all := lw_g (lw_at lw_m3 166 rfl) rfl
theorem q750 : (Jvm.Cond.methodLink "FoldLister$Page$Layout" (9 : Nat) ({ cls := "java/lang/Object", name := "<init>", desc := "()V" } : Jvm.MethodName)) ∈ lw_all := lw_g (lw_at lw_m3 167 rfl) rfl
theorem q751 : (Jvm.Cond.classLink "FoldLister$Page$Layout" (15 : Nat) "java/util/ArrayList") ∈ lw_all := lw_g (lw_at lw_m3 168 rfl) rfl
theorem q752 : (Jvm.Cond.methodLink "FoldLister$Page$Layout" (17 : Nat) ({ cls := "java/util/ArrayList", name := "<init>", desc := "()V" } : Jvm.MethodName)) ∈ lw_all := lw_g (lw_at lw_m3 169 rfl) rfl
theorem q753 : (Jvm.Cond.methodLink "FoldLister$Page$Layout" (25 : Nat) ({ cls := "FoldLister$Page", name := "size", desc := "()I" } : Jvm.MethodName)) ∈ lw_all := lw_g (lw_at lw_m3 170 rfl) rfl
theorem q754 : (Jvm.Cond.classLink "FoldLister$Page$Layout" (35 : Nat) "java/util/ArrayDeque") ∈ lw_all := lw_g (lw_at lw_m3 171 rfl) rfl
theorem q755 : (Jvm.Cond.methodLink "FoldLister$Page$Layout" (37 : Nat) ({ cls := "java/util/ArrayDeque", name := "<init>", desc := "()V" } : Jvm.MethodName)) ∈ lw_all := lw_g (lw_at lw_m3 172 rfl) rfl
theorem q756 : (Jvm.Cond.methodLink "FoldLister$Page$Layout" (38 : Nat) ({ cls := "FoldLister$Page", name := "iterator", desc := "()Ljava/util/Iterator;" } : Jvm.MethodName)) ∈ lw_all := lw_g (lw_at lw_m3 173 rfl) rfl
theorem q812 : (Jvm.Cond.fieldLinkNest "FoldLister$Page$Layout" (88 : Nat) "FoldLister$Bracket" "line" "I" "FoldLister") ∈ lw_tbl := lw_at lw_m3 229 rfl
theorem q815 : (Jvm.Cond.fieldLinkNest "FoldLister$Page$Layout" (170 : Nat) "FoldLister$Bracket" "place" "I" "FoldLister") ∈ lw_tbl := lw_at lw_m3 232 rfl
theorem q818 : (Jvm.Cond.fieldLinkNest "FoldLister$Page$Layout" (60 : Nat) "FoldLister$Bracket" "opens" "Z" "FoldLister") ∈ lw_tbl := lw_at lw_m3 235 rfl
theorem q820 : (Jvm.Cond.fieldLinkNest "FoldLister$Page$Layout" (81 : Nat) "FoldLister$Bracket" "partner" "LFoldLister$Bracket;" "FoldLister") ∈ lw_tbl := lw_at lw_m3 237 rfl
theorem q823 : (Jvm.Cond.fieldLinkNest "FoldLister$Page$Layout" (67 : Nat) "FoldLister$Bracket" "around" "LFoldLister$Bracket;" "FoldLister") ∈ lw_tbl := lw_at lw_m4 0 rfl
theorem q825 : (Jvm.Cond.fieldLinkNest "FoldLister$Page$Layout" (98 : Nat) "FoldLister$Bracket" "region" "LFoldLister$Region;" "FoldLister") ∈ lw_tbl := lw_at lw_m4 2 rfl
theorem q853 : (Jvm.Cond.interfaceEntry "FoldLister$Page$Layout" (42 : Nat)) ∈ lw_tbl := lw_at lw_m4 30 rfl
theorem q854 : (Jvm.Cond.methodLink "FoldLister$Page$Layout" (42 : Nat) ({ cls := "java/util/Iterator", name := "hasNext", desc := "()Z" } : Jvm.MethodName)) ∈ lw_all := lw_g (lw_at lw_m4 31 rfl) rfl
theorem q896 : (Jvm.Cond.interfaceEntry "FoldLister$Page$Layout" (48 : Nat)) ∈ lw_tbl := lw_at lw_m4 73 rfl
theorem q897 : (Jvm.Cond.methodLink "FoldLister$Page$Layout" (48 : Nat) ({ cls := "java/util/Iterator", name := "next", desc := "()Ljava/lang/Object;" } : Jvm.MethodName)) ∈ lw_all := lw_g (lw_at lw_m4 74 rfl) rfl
theorem q1000 : (Jvm.Cond.selects "FoldLister$Page$Layout" ({ cls := "java/lang/Object", name := "getClass", desc := "()Ljava/lang/Class;" } : Jvm.MethodName) ({ cls := "java/lang/Object", name := "getClass", desc := "()Ljava/lang/Class;" } : Jvm.MethodName)) ∈ lw_all := lw_g (lw_at lw_m4 177 rfl) rfl
theorem q1082 : (Jvm.Cond.classLink "FoldLister$Page$Layout" (52 : Nat) "FoldLister$Bracket") ∈ lw_all := lw_g (lw_at lw_m5 19 rfl) rfl
theorem q1083 : (Jvm.Cond.interfaceEntry "FoldLister$Page$Layout" (54 : Nat)) ∈ lw_tbl := lw_at lw_m5 20 rfl
theorem q1084 : (Jvm.Cond.methodLink "FoldLister$Page$Layout" (54 : Nat) ({ cls := "java/util/List", name := "add", desc := "(Ljava/lang/Object;)Z" } : Jvm.MethodName)) ∈ lw_all := lw_g (lw_at lw_m5 21 rfl) rfl
theorem q1146 : (Jvm.Cond.methodLink "FoldLister$Page$Layout" (64 : Nat) ({ cls := "java/util/ArrayDeque", name := "peekLast", desc := "()Ljava/lang/Object;" } : Jvm.MethodName)) ∈ lw_all := lw_g (lw_at lw_m5 83 rfl) rfl
theorem q1156 : (Jvm.Cond.methodLink "FoldLister$Page$Layout" (71 : Nat) ({ cls := "java/util/ArrayDeque", name := "addLast", desc := "(Ljava/lang/Object;)V" } : Jvm.MethodName)) ∈ lw_all := lw_g (lw_at lw_m5 93 rfl) rfl
theorem q1191 : (Jvm.Cond.methodLink "FoldLister$Page$Layout" (75 : Nat) ({ cls := "java/util/ArrayDeque", name := "isEmpty", desc := "()Z" } : Jvm.MethodName)) ∈ lw_all := lw_g (lw_at lw_m5 128 rfl) rfl
theorem q1195 : (Jvm.Cond.methodLink "FoldLister$Page$Layout" (78 : Nat) ({ cls := "java/util/ArrayDeque", name := "removeLast", desc := "()Ljava/lang/Object;" } : Jvm.MethodName)) ∈ lw_all := lw_g (lw_at lw_m5 132 rfl) rfl
theorem q1203 : (Jvm.Cond.interfaceEntry "FoldLister$Page$Layout" (84 : Nat)) ∈ lw_tbl := lw_at lw_m5 140 rfl
theorem q1204 : (Jvm.Cond.methodLink "FoldLister$Page$Layout" (84 : Nat) ({ cls := "java/util/List", name := "iterator", desc := "()Ljava/util/Iterator;" } : Jvm.MethodName)) ∈ lw_all := lw_g (lw_at lw_m5 141 rfl) rfl
theorem q1316 : (Jvm.Cond.methodLink "FoldLister$Page$Layout" (85 : Nat) ({ cls := "FoldLister$Bracket", name := "isLoose", desc := "()Z" } : Jvm.MethodName)) ∈ lw_all := lw_g (lw_at lw_m6 13 rfl) rfl
theorem q1320 : (Jvm.Cond.classLink "FoldLister$Page$Layout" (92 : Nat) "FoldLister$Region") ∈ lw_all := lw_g (lw_at lw_m6 17 rfl) rfl
theorem q1322 : (Jvm.Cond.interfaceEntry "FoldLister$Page$Layout" (94 : Nat)) ∈ lw_tbl := lw_at lw_m6 19 rfl
theorem q1323 : (Jvm.Cond.methodLink "FoldLister$Page$Layout" (94 : Nat) ({ cls := "java/util/List", name := "size", desc := "()I" } : Jvm.MethodName)) ∈ lw_all := lw_g (lw_at lw_m6 20 rfl) rfl
theorem q1324 : (Jvm.Cond.methodLink "FoldLister$Page$Layout" (95 : Nat) ({ cls := "FoldLister$Region", name := "<init>", desc := "(ILFoldLister$Bracket;)V" } : Jvm.MethodName)) ∈ lw_all := lw_g (lw_at lw_m6 21 rfl) rfl
theorem q1337 : (Jvm.Cond.fieldLinkNest "FoldLister$Page$Layout" (164 : Nat) "FoldLister$Region" "level" "I" "FoldLister") ∈ lw_tbl := lw_at lw_m6 34 rfl
theorem q1350 : (Jvm.Cond.methodLink "FoldLister$Page$Layout" (102 : Nat) ({ cls := "FoldLister$Region", name := "finds", desc := "()V" } : Jvm.MethodName)) ∈ lw_all := lw_g (lw_at lw_m6 47 rfl) rfl
theorem q1354 : (Jvm.Cond.methodLink "FoldLister$Page$Layout" (105 : Nat) ({ cls := "FoldLister$Region", name := "first", desc := "()I" } : Jvm.MethodName)) ∈ lw_all := lw_g (lw_at lw_m6 51 rfl) rfl
theorem q1358 : (Jvm.Cond.methodLink "FoldLister$Page$Layout" (108 : Nat) ({ cls := "FoldLister$Region", name := "last", desc := "()I" } : Jvm.MethodName)) ∈ lw_all := lw_g (lw_at lw_m6 55 rfl) rfl
theorem q1362 : (Jvm.Cond.classLink "FoldLister$Page$Layout" (111 : Nat) "FoldLister$Page$Layout$1") ∈ lw_all := lw_g (lw_at lw_m6 59 rfl) rfl
theorem q1364 : (Jvm.Cond.methodLink "FoldLister$Page$Layout" (113 : Nat) ({ cls := "FoldLister$Page$Layout$1", name := "<init>", desc := "(LFoldLister$Page$Layout;LFoldLister$Page;)V" } : Jvm.MethodName)) ∈ lw_all := lw_g (lw_at lw_m6 61 rfl) rfl
theorem q1375 : (Jvm.Cond.methodLink "FoldLister$Page$Layout" (116 : Nat) ({ cls := "FoldLister$Page$Layout", name := "hiddenBy", desc := "(LFoldLister$Folds;)Ljava/util/BitSet;" } : Jvm.MethodName)) ∈ lw_all := lw_g (lw_at lw_m6 72 rfl) rfl
theorem q1376 : (Jvm.Cond.instanceMethod ({ cls := "FoldLister$Page$Layout", name := "hiddenBy", desc := "(LFoldLister$Folds;)Ljava/util/BitSet;" } : Jvm.MethodName)) ∈ lw_all := lw_g (lw_at lw_m6 73 rfl) rfl
theorem q1377 : (Jvm.Cond.selects "FoldLister$Page$Layout" ({ cls := "FoldLister$Page$Layout", name := "hiddenBy", desc := "(LFoldLister$Folds;)Ljava/util/BitSet;" } : Jvm.MethodName) ({ cls := "FoldLister$Page$Layout", name := "hiddenBy", desc := "(LFoldLister$Folds;)Ljava/util/BitSet;" } : Jvm.MethodName)) ∈ lw_all := lw_g (lw_at lw_m6 74 rfl) rfl
theorem q1378 : (Jvm.Cond.code ({ cls := "FoldLister$Page$Layout", name := "hiddenBy", desc := "(LFoldLister$Folds;)Ljava/util/BitSet;" } : Jvm.MethodName) prog_14_method_2_code (5 : Nat) (Option.some (Jvm.ClassFile.FieldType.object "java/util/BitSet"))) ∈ lw_all := lw_g (lw_at lw_m6 75 rfl) rfl
theorem q1379 : (Jvm.Cond.classLink "FoldLister$Page$Layout" (124 : Nat) "java/util/BitSet") ∈ lw_all := lw_g (lw_at lw_m6 76 rfl) rfl
theorem q1381 : (Jvm.Cond.methodLink "FoldLister$Page$Layout" (126 : Nat) ({ cls := "java/util/BitSet", name := "<init>", desc := "()V" } : Jvm.MethodName)) ∈ lw_all := lw_g (lw_at lw_m6 78 rfl) rfl
theorem q1403 : (Jvm.Cond.interfaceEntry "FoldLister$Page$Layout" (127 : Nat)) ∈ lw_tbl := lw_at lw_m6 100 rfl
theorem q1404 : (Jvm.Cond.methodLink "FoldLister$Page$Layout" (127 : Nat) ({ cls := "FoldLister$Folds", name := "isClosed", desc := "(I)Z" } : Jvm.MethodName)) ∈ lw_all := lw_g (lw_at lw_m6 101 rfl) rfl
theorem q1448 : (Jvm.Cond.methodLink "FoldLister$Page$Layout" (133 : Nat) ({ cls := "java/util/BitSet", name := "set", desc := "(II)V" } : Jvm.MethodName)) ∈ lw_all := lw_g (lw_at lw_m6 145 rfl) rfl
theorem q1477 : (Jvm.Cond.fieldLink "FoldLister$Page$Layout" (18 : Nat) "FoldLister$Page$Layout" "brackets" "Ljava/util/List;") ∈ lw_all := lw_g (lw_at lw_m6 174 rfl) rfl
theorem q1479 : (Jvm.Cond.fieldLink "FoldLister$Page$Layout" (22 : Nat) "FoldLister$Page$Layout" "regions" "Ljava/util/List;") ∈ lw_all := lw_g (lw_at lw_m6 176 rfl) rfl
theorem q1481 : (Jvm.Cond.fieldLink "FoldLister$Page$Layout" (31 : Nat) "FoldLister$Page$Layout" "depths" "[I") ∈ lw_all := lw_g (lw_at lw_m6 178 rfl) rfl
theorem q1483 : (Jvm.Cond.fieldLink "FoldLister$Page$Layout" (120 : Nat) "FoldLister$Page$Layout" "hidden" "Ljava/util/BitSet;") ∈ lw_all := lw_g (lw_at lw_m6 180 rfl) rfl
theorem q1484 : (Jvm.Cond.fieldLink "FoldLister$Page$Layout" (3 : Nat) "FoldLister$Page$Layout" "this$0" "LFoldLister$Page;") ∈ lw_all := lw_g (lw_at lw_m6 181 rfl) rfl
theorem q1486 : (Jvm.Cond.laysFinal "FoldLister$Page$Layout" "FoldLister$Page$Layout" "brackets" "Ljava/util/List;") ∈ lw_all := lw_g (lw_at lw_m6 183 rfl) rfl
theorem q1487 : (Jvm.Cond.soleField "FoldLister$Page$Layout" "brackets") ∈ lw_all := lw_g (lw_at lw_m6 184 rfl) rfl
theorem q1488 : (Jvm.Cond.laysFinal "FoldLister$Page$Layout" "FoldLister$Page$Layout" "regions" "Ljava/util/List;") ∈ lw_all := lw_g (lw_at lw_m6 185 rfl) rfl
theorem q1489 : (Jvm.Cond.soleField "FoldLister$Page$Layout" "regions") ∈ lw_all := lw_g (lw_at lw_m6 186 rfl) rfl
theorem q1490 : (Jvm.Cond.laysFinal "FoldLister$Page$Layout" "FoldLister$Page$Layout" "depths" "[I") ∈ lw_all := lw_g (lw_at lw_m6 187 rfl) rfl
theorem q1491 : (Jvm.Cond.soleField "FoldLister$Page$Layout" "depths") ∈ lw_all := lw_g (lw_at lw_m6 188 rfl) rfl
theorem q1492 : (Jvm.Cond.laysFinal "FoldLister$Page$Layout" "FoldLister$Page$Layout" "hidden" "Ljava/util/BitSet;") ∈ lw_all := lw_g (lw_at lw_m6 189 rfl) rfl
theorem q1493 : (Jvm.Cond.soleField "FoldLister$Page$Layout" "hidden") ∈ lw_all := lw_g (lw_at lw_m6 190 rfl) rfl
theorem q1494 : (Jvm.Cond.laysFinal "FoldLister$Page$Layout" "FoldLister$Page$Layout" "this$0" "LFoldLister$Page;") ∈ lw_all := lw_g (lw_at lw_m6 191 rfl) rfl
theorem q1495 : (Jvm.Cond.soleField "FoldLister$Page$Layout" "this$0") ∈ lw_all := lw_g (lw_at lw_m6 192 rfl) rfl
theorem q1496 : (Jvm.Cond.superclass "FoldLister$Page$Layout" "java/lang/Object") ∈ lw_all := lw_g (lw_at lw_m6 193 rfl) rfl
theorem q1498 : (Jvm.Cond.instanceMethod ({ cls := "FoldLister$Page$Layout", name := "isShown", desc := "(I)Z" } : Jvm.MethodName)) ∈ lw_all := lw_g (lw_at lw_m6 195 rfl) rfl
theorem q1499 : (Jvm.Cond.selects "FoldLister$Page$Layout" ({ cls := "FoldLister$Page$Layout", name := "isShown", desc := "(I)Z" } : Jvm.MethodName) ({ cls := "FoldLister$Page$Layout", name := "isShown", desc := "(I)Z" } : Jvm.MethodName)) ∈ lw_all := lw_g (lw_at lw_m6 196 rfl) rfl
theorem q1500 : (Jvm.Cond.code ({ cls := "FoldLister$Page$Layout", name := "isShown", desc := "(I)Z" } : Jvm.MethodName) prog_14_method_3_code (2 : Nat) (Option.some Jvm.ClassFile.FieldType.boolean)) ∈ lw_all := lw_g (lw_at lw_m6 197 rfl) rfl
theorem q1501 : (Jvm.Cond.methodLink "FoldLister$Page$Layout" (137 : Nat) ({ cls := "java/util/BitSet", name := "get", desc := "(I)Z" } : Jvm.MethodName)) ∈ lw_all := lw_g (lw_at lw_m6 198 rfl) rfl
theorem q1520 : (Jvm.Cond.instanceMethod ({ cls := "FoldLister$Page$Layout", name := "shown", desc := "()I" } : Jvm.MethodName)) ∈ lw_all := lw_g (lw_at lw_m6 217 rfl) rfl
theorem q1521 : (Jvm.Cond.selects "FoldLister$Page$Layout" ({ cls := "FoldLister$Page$Layout", name := "shown", desc := "()I" } : Jvm.MethodName) ({ cls := "FoldLister$Page$Layout", name := "shown", desc := "()I" } : Jvm.MethodName)) ∈ lw_all := lw_g (lw_at lw_m6 218 rfl) rfl
theorem q1522 : (Jvm.Cond.code ({ cls := "FoldLister$Page$Layout", name := "shown", desc := "()I" } : Jvm.MethodName) prog_14_method_4_code (1 : Nat) (Option.some Jvm.ClassFile.FieldType.int)) ∈ lw_all := lw_g (lw_at lw_m6 219 rfl) rfl
theorem q1523 : (Jvm.Cond.methodLink "FoldLister$Page$Layout" (140 : Nat) ({ cls := "java/util/BitSet", name := "cardinality", desc := "()I" } : Jvm.MethodName)) ∈ lw_all := lw_g (lw_at lw_m6 220 rfl) rfl
theorem q1548 : (Jvm.Cond.instanceMethod ({ cls := "FoldLister$Page$Layout", name := "hiders", desc := "(I)Ljava/util/BitSet;" } : Jvm.MethodName)) ∈ lw_all := lw_g (lw_at lw_m7 5 rfl) rfl
theorem q1549 : (Jvm.Cond.selects "FoldLister$Page$Layout" ({ cls := "FoldLister$Page$Layout", name := "hiders", desc := "(I)Ljava/util/BitSet;" } : Jvm.MethodName) ({ cls := "FoldLister$Page$Layout", name := "hiders", desc := "(I)Ljava/util/BitSet;" } : Jvm.MethodName)) ∈ lw_all := lw_g (lw_at lw_m7 6 rfl) rfl
theorem q1550 : (Jvm.Cond.code ({ cls := "FoldLister$Page$Layout", name := "hiders", desc := "(I)Ljava/util/BitSet;" } : Jvm.MethodName) prog_14_method_13_code (5 : Nat) (Option.some (Jvm.ClassFile.FieldType.object "java/util/BitSet"))) ∈ lw_all := lw_g (lw_at lw_m7 7 rfl) rfl
theorem q1551 : (Jvm.Cond.methodLink "FoldLister$Page$Layout" (161 : Nat) ({ cls := "FoldLister$Region", name := "hasInside", desc := "(I)Z" } : Jvm.MethodName)) ∈ lw_all := lw_g (lw_at lw_m7 8 rfl) rfl
theorem q1557 : (Jvm.Cond.methodLink "FoldLister$Page$Layout" (157 : Nat) ({ cls := "FoldLister$Page$Layout", name := "isFolded", desc := "(LFoldLister$Region;)Z" } : Jvm.MethodName)) ∈ lw_all := lw_g (lw_at lw_m7 14 rfl) rfl
theorem q1558 : (Jvm.Cond.instanceMethod ({ cls := "FoldLister$Page$Layout", name := "isFolded", desc := "(LFoldLister$Region;)Z" } : Jvm.MethodName)) ∈ lw_all := lw_g (lw_at lw_m7 15 rfl) rfl
theorem q1559 : (Jvm.Cond.selects "FoldLister$Page$Layout" ({ cls := "FoldLister$Page$Layout", name := "isFolded", desc := "(LFoldLister$Region;)Z" } : Jvm.MethodName) ({ cls := "FoldLister$Page$Layout", name := "isFolded", desc := "(LFoldLister$Region;)Z" } : Jvm.MethodName)) ∈ lw_all := lw_g (lw_at lw_m7 16 rfl) rfl
theorem q1560 : (Jvm.Cond.code ({ cls := "FoldLister$Page$Layout", name := "isFolded", desc := "(LFoldLister$Region;)Z" } : Jvm.MethodName) prog_14_method_8_code (2 : Nat) (Option.some Jvm.ClassFile.FieldType.boolean)) ∈ lw_all := lw_g (lw_at lw_m7 17 rfl) rfl
theorem q1561 : (Jvm.Cond.interfaceEntry "FoldLister$Page$Layout" (149 : Nat)) ∈ lw_tbl := lw_at lw_m7 18 rfl
theorem q1562 : (Jvm.Cond.methodLink "FoldLister$Page$Layout" (149 : Nat) ({ cls := "java/util/List", name := "get", desc := "(I)Ljava/lang/Object;" } : Jvm.MethodName)) ∈ lw_all := lw_g (lw_at lw_m7 19 rfl) rfl
theorem q1563 : (Jvm.Cond.classLink "FoldLister$Page$Layout" (152 : Nat) "FoldLister$Line") ∈ lw_all := lw_g (lw_at lw_m7 20 rfl) rfl
theorem q1564 : (Jvm.Cond.methodLink "FoldLister$Page$Layout" (167 : Nat) ({ cls := "java/util/BitSet", name := "set", desc := "(I)V" } : Jvm.MethodName)) ∈ lw_all := lw_g (lw_at lw_m7 21 rfl) rfl
theorem q1803 : (Jvm.Cond.fieldLinkNest "FoldLister$Page$Layout" (154 : Nat) "FoldLister$Line" "closed" "Z" "FoldLister") ∈ lw_tbl := lw_at lw_m8 20 rfl
theorem q2039 : (Jvm.Cond.instanceMethod ({ cls := "FoldLister$Page$Layout", name := "folded", desc := "()I" } : Jvm.MethodName)) ∈ lw_all := lw_g (lw_at lw_m9 16 rfl) rfl
theorem q2040 : (Jvm.Cond.selects "FoldLister$Page$Layout" ({ cls := "FoldLister$Page$Layout", name := "folded", desc := "()I" } : Jvm.MethodName) ({ cls := "FoldLister$Page$Layout", name := "folded", desc := "()I" } : Jvm.MethodName)) ∈ lw_all := lw_g (lw_at lw_m9 17 rfl) rfl
theorem q2041 : (Jvm.Cond.code ({ cls := "FoldLister$Page$Layout", name := "folded", desc := "()I" } : Jvm.MethodName) prog_14_method_9_code (4 : Nat) (Option.some Jvm.ClassFile.FieldType.int)) ∈ lw_all := lw_g (lw_at lw_m9 18 rfl) rfl
theorem q2157 : (Jvm.Cond.instanceMethod ({ cls := "FoldLister$Page$Layout", name := "rows", desc := "(I)I" } : Jvm.MethodName)) ∈ lw_all := lw_g (lw_at lw_m9 134 rfl) rfl
theorem q2158 : (Jvm.Cond.selects "FoldLister$Page$Layout" ({ cls := "FoldLister$Page$Layout", name := "rows", desc := "(I)I" } : Jvm.MethodName) ({ cls := "FoldLister$Page$Layout", name := "rows", desc := "(I)I" } : Jvm.MethodName)) ∈ lw_all := lw_g (lw_at lw_m9 135 rfl) rfl
theorem q2159 : (Jvm.Cond.code ({ cls := "FoldLister$Page$Layout", name := "rows", desc := "(I)I" } : Jvm.MethodName) prog_14_method_5_code (4 : Nat) (Option.some Jvm.ClassFile.FieldType.int)) ∈ lw_all := lw_g (lw_at lw_m9 136 rfl) rfl
theorem q2160 : (Jvm.Cond.methodLink "FoldLister$Page$Layout" (143 : Nat) ({ cls := "FoldLister$Page$Layout", name := "isShown", desc := "(I)Z" } : Jvm.MethodName)) ∈ lw_all := lw_g (lw_at lw_m9 137 rfl) rfl
theorem q2162 : (Jvm.Cond.instanceMethod ({ cls := "FoldLister$Page$Layout", name := "hiddenBehind", desc := "(I)I" } : Jvm.MethodName)) ∈ lw_all := lw_g (lw_at lw_m9 139 rfl) rfl
theorem q2163 : (Jvm.Cond.selects "FoldLister$Page$Layout" ({ cls := "FoldLister$Page$Layout", name := "hiddenBehind", desc := "(I)I" } : Jvm.MethodName) ({ cls := "FoldLister$Page$Layout", name := "hiddenBehind", desc := "(I)I" } : Jvm.MethodName)) ∈ lw_all := lw_g (lw_at lw_m9 140 rfl) rfl
theorem q2164 : (Jvm.Cond.code ({ cls := "FoldLister$Page$Layout", name := "hiddenBehind", desc := "(I)I" } : Jvm.MethodName) prog_14_method_7_code (3 : Nat) (Option.some Jvm.ClassFile.FieldType.int)) ∈ lw_all := lw_g (lw_at lw_m9 141 rfl) rfl
theorem q2170 : (Jvm.Cond.instanceMethod ({ cls := "FoldLister$Page$Layout", name := "begun", desc := "(I)I" } : Jvm.MethodName)) ∈ lw_all := lw_g (lw_at lw_m9 147 rfl) rfl
theorem q2171 : (Jvm.Cond.selects "FoldLister$Page$Layout" ({ cls := "FoldLister$Page$Layout", name := "begun", desc := "(I)I" } : Jvm.MethodName) ({ cls := "FoldLister$Page$Layout", name := "begun", desc := "(I)I" } : Jvm.MethodName)) ∈ lw_all := lw_g (lw_at lw_m9 148 rfl) rfl
theorem q2172 : (Jvm.Cond.code ({ cls := "FoldLister$Page$Layout", name := "begun", desc := "(I)I" } : Jvm.MethodName) prog_14_method_10_code (5 : Nat) (Option.some Jvm.ClassFile.FieldType.int)) ∈ lw_all := lw_g (lw_at lw_m9 149 rfl) rfl
theorem q2190 : (Jvm.Cond.instanceMethod ({ cls := "FoldLister$Page$Layout", name := "lineOfRow", desc := "(I)I" } : Jvm.MethodName)) ∈ lw_all := lw_g (lw_at lw_m9 167 rfl) rfl
theorem q2191 : (Jvm.Cond.selects "FoldLister$Page$Layout" ({ cls := "FoldLister$Page$Layout", name := "lineOfRow", desc := "(I)I" } : Jvm.MethodName) ({ cls := "FoldLister$Page$Layout", name := "lineOfRow", desc := "(I)I" } : Jvm.MethodName)) ∈ lw_all := lw_g (lw_at lw_m9 168 rfl) rfl
theorem q2192 : (Jvm.Cond.code ({ cls := "FoldLister$Page$Layout", name := "lineOfRow", desc := "(I)I" } : Jvm.MethodName) prog_14_method_6_code (4 : Nat) (Option.some Jvm.ClassFile.FieldType.int)) ∈ lw_all := lw_g (lw_at lw_m9 169 rfl) rfl
theorem q2395 : (Jvm.Cond.instanceMethod ({ cls := "FoldLister$Page$Layout", name := "innermost", desc := "(I)LFoldLister$Region;" } : Jvm.MethodName)) ∈ lw_all := lw_g (lw_at lw_m10 132 rfl) rfl
theorem q2396 : (Jvm.Cond.selects "FoldLister$Page$Layout" ({ cls := "FoldLister$Page$Layout", name := "innermost", desc := "(I)LFoldLister$Region;" } : Jvm.MethodName) ({ cls := "FoldLister$Page$Layout", name := "innermost", desc := "(I)LFoldLister$Region;" } : Jvm.MethodName)) ∈ lw_all := lw_g (lw_at lw_m10 133 rfl) rfl
theorem q2397 : (Jvm.Cond.code ({ cls := "FoldLister$Page$Layout", name := "innermost", desc := "(I)LFoldLister$Region;" } : Jvm.MethodName) prog_14_method_11_code (5 : Nat) (Option.some (Jvm.ClassFile.FieldType.object "FoldLister$Region"))) ∈ lw_all := lw_g (lw_at lw_m10 134 rfl) rfl
theorem q2406 : (Jvm.Cond.instanceMethod ({ cls := "FoldLister$Page$Layout", name := "outermost", desc := "(I)LFoldLister$Region;" } : Jvm.MethodName)) ∈ lw_all := lw_g (lw_at lw_m10 143 rfl) rfl
theorem q2407 : (Jvm.Cond.selects "FoldLister$Page$Layout" ({ cls := "FoldLister$Page$Layout", name := "outermost", desc := "(I)LFoldLister$Region;" } : Jvm.MethodName) ({ cls := "FoldLister$Page$Layout", name := "outermost", desc := "(I)LFoldLister$Region;" } : Jvm.MethodName)) ∈ lw_all := lw_g (lw_at lw_m10 144 rfl) rfl
theorem q2408 : (Jvm.Cond.code ({ cls := "FoldLister$Page$Layout", name := "outermost", desc := "(I)LFoldLister$Region;" } : Jvm.MethodName) prog_14_method_12_code (5 : Nat) (Option.some (Jvm.ClassFile.FieldType.object "FoldLister$Region"))) ∈ lw_all := lw_g (lw_at lw_m10 145 rfl) rfl
theorem q2417 : (Jvm.Cond.instanceMethod ({ cls := "FoldLister$Page$Layout", name := "bracketAt", desc := "(II)LFoldLister$Bracket;" } : Jvm.MethodName)) ∈ lw_all := lw_g (lw_at lw_m10 154 rfl) rfl
theorem q2418 : (Jvm.Cond.selects "FoldLister$Page$Layout" ({ cls := "FoldLister$Page$Layout", name := "bracketAt", desc := "(II)LFoldLister$Bracket;" } : Jvm.MethodName) ({ cls := "FoldLister$Page$Layout", name := "bracketAt", desc := "(II)LFoldLister$Bracket;" } : Jvm.MethodName)) ∈ lw_all := lw_g (lw_at lw_m10 155 rfl) rfl
theorem q2419 : (Jvm.Cond.code ({ cls := "FoldLister$Page$Layout", name := "bracketAt", desc := "(II)LFoldLister$Bracket;" } : Jvm.MethodName) prog_14_method_14_code (5 : Nat) (Option.some (Jvm.ClassFile.FieldType.object "FoldLister$Bracket"))) ∈ lw_all := lw_g (lw_at lw_m10 156 rfl) rfl
theorem q3621 : (Jvm.Cond.castable "FoldLister$Page$Layout" "java/lang/Object") ∈ lw_tbl := lw_at lw_m15 158 rfl
theorem in_X7 : ∀ w ∈ wsX70, w ∈ lw_all := lw_in wsX70 [1486, 1488, 1490, 1492, 1494] (by decide +kernel) (by decide +kernel)
/-! FoldLister$Page$1 -/
set_option maxRecDepth 100000
def RX8 : String := "FoldLister$Page$1"
def TX8 : u_T := fun k => match k with
  | 0 => ("FoldLister$Page$1", "line", "I", false)
  | 1 => ("FoldLister$Page$1", "place", "I", false)
  | 2 => ("FoldLister$Page$1", "next", "LFoldLister$Bracket;", false)
  | _ => ("FoldLister$Page$1", "this$0", "LFoldLister$Page;", true)
def tyX8 : Nat → FieldType := fun k => match k with
  | 0 => .int
  | 1 => .int
  | 2 => .object "FoldLister$Bracket"
  | _ => .object "FoldLister$Page"
abbrev wsX80 : List Cond := u_ws RX8 TX8 4
theorem nmX8 : ∀ a, a < 4 → ∀ b, b < 4 → a ≠ b → (TX8 a).2.1 ≠ (TX8 b).2.1 := by decide +kernel
theorem tyX8_ok : ∀ k, k < 4 → parseFieldDescriptor (TX8 k).2.2.1 = some (tyX8 k) := by decide +kernel
abbrev cX8_init : ByteArray := prog_13_method_1_code
def yX8_init : MethodName := ⟨RX8, "<init>", "(LFoldLister$Page;)V"⟩
def dkwX8_init_0 : List UInt8 := [42, 43, 181, 0, 3, 42, 183, 0, 9, 42, 2, 181, 0, 15, 42, 42, 182, 0, 19, 181, 0, 23, 177]
abbrev dktX8_init_0 : List UInt8 := dkwX8_init_0 ++ []
theorem dksX8_init_0 : cX8_init.data.toList.drop 0 = dktX8_init_0 := by decide +kernel
theorem dX8_init_0 : decode cX8_init 0 = .ok (.aload_n 0, 1) := dk_42 (dk_at dksX8_init_0 0 rfl rfl)
theorem dX8_init_1 : decode cX8_init 1 = .ok (.aload_n 1, 1) := dk_43 (dk_at dksX8_init_0 1 rfl rfl)
theorem dX8_init_2 : decode cX8_init 2 = .ok (.putfield 3, 3) := dk_181 0 3 (dk_at dksX8_init_0 2 rfl rfl)
theorem dX8_init_5 : decode cX8_init 5 = .ok (.aload_n 0, 1) := dk_42 (dk_at dksX8_init_0 5 rfl rfl)
theorem dX8_init_6 : decode cX8_init 6 = .ok (.invokespecial 9, 3) := dk_183 0 9 (dk_at dksX8_init_0 6 rfl rfl)
theorem dX8_init_9 : decode cX8_init 9 = .ok (.aload_n 0, 1) := dk_42 (dk_at dksX8_init_0 9 rfl rfl)
theorem dX8_init_10 : decode cX8_init 10 = .ok (.iconst (-1), 1) := dk_2 (dk_at dksX8_init_0 10 rfl rfl)
theorem dX8_init_11 : decode cX8_init 11 = .ok (.putfield 15, 3) := dk_181 0 15 (dk_at dksX8_init_0 11 rfl rfl)
theorem dX8_init_14 : decode cX8_init 14 = .ok (.aload_n 0, 1) := dk_42 (dk_at dksX8_init_0 14 rfl rfl)
theorem dX8_init_15 : decode cX8_init 15 = .ok (.aload_n 0, 1) := dk_42 (dk_at dksX8_init_0 15 rfl rfl)
theorem dX8_init_16 : decode cX8_init 16 = .ok (.invokevirtual 19, 3) := dk_182 0 19 (dk_at dksX8_init_0 16 rfl rfl)
theorem dX8_init_19 : decode cX8_init 19 = .ok (.putfield 23, 3) := dk_181 0 23 (dk_at dksX8_init_0 19 rfl rfl)
theorem dX8_init_22 : decode cX8_init 22 = .ok (.return_, 1) := dk_177 (dk_at dksX8_init_0 22 rfl rfl)
abbrev cX8_seek : ByteArray := prog_13_method_2_code
def yX8_seek : MethodName := ⟨RX8, "seek", "()LFoldLister$Bracket;"⟩
def dkwX8_seek_4 : List UInt8 := [181, 0, 27, 42, 2, 181, 0, 15, 167, 255, 154, 1, 176]
abbrev dktX8_seek_4 : List UInt8 := dkwX8_seek_4 ++ []
def dkwX8_seek_3 : List UInt8 := [167, 0, 4, 3, 183, 0, 47, 176, 27, 2, 159, 0, 6, 167, 255, 172, 42, 89, 180, 0, 27, 4, 96]
abbrev dktX8_seek_3 : List UInt8 := dkwX8_seek_3 ++ dktX8_seek_4
def dkwX8_seek_2 : List UInt8 := [16, 125, 160, 0, 30, 187, 0, 45, 89, 42, 180, 0, 27, 42, 180, 0, 15, 27, 16, 123, 160, 0, 7, 4]
abbrev dktX8_seek_2 : List UInt8 := dkwX8_seek_2 ++ dktX8_seek_3
def dkwX8_seek_1 : List UInt8 := [42, 42, 180, 0, 27, 182, 0, 36, 42, 180, 0, 15, 182, 0, 39, 60, 27, 16, 123, 159, 0, 9, 27]
abbrev dktX8_seek_1 : List UInt8 := dkwX8_seek_1 ++ dktX8_seek_2
def dkwX8_seek_0 : List UInt8 := [42, 180, 0, 27, 42, 180, 0, 3, 182, 0, 30, 162, 0, 94, 42, 89, 180, 0, 15, 4, 96, 181, 0, 15]
abbrev dktX8_seek_0 : List UInt8 := dkwX8_seek_0 ++ dktX8_seek_1
theorem dksX8_seek_0 : cX8_seek.data.toList.drop 0 = dktX8_seek_0 := by decide +kernel
theorem dksX8_seek_1 : cX8_seek.data.toList.drop 24 = dktX8_seek_1 := dk_seg dksX8_seek_0 24 rfl rfl
theorem dksX8_seek_2 : cX8_seek.data.toList.drop 47 = dktX8_seek_2 := dk_seg dksX8_seek_1 23 rfl rfl
theorem dksX8_seek_3 : cX8_seek.data.toList.drop 71 = dktX8_seek_3 := dk_seg dksX8_seek_2 24 rfl rfl
theorem dksX8_seek_4 : cX8_seek.data.toList.drop 94 = dktX8_seek_4 := dk_seg dksX8_seek_3 23 rfl rfl
theorem dX8_seek_0 : decode cX8_seek 0 = .ok (.aload_n 0, 1) := dk_42 (dk_at dksX8_seek_0 0 rfl rfl)
theorem dX8_seek_1 : decode cX8_seek 1 = .ok (.getfield 27, 3) := dk_180 0 27 (dk_at dksX8_seek_0 1 rfl rfl)
theorem dX8_seek_4 : decode cX8_seek 4 = .ok (.aload_n 0, 1) := dk_42 (dk_at dksX8_seek_0 4 rfl rfl)
theorem dX8_seek_5 : decode cX8_seek 5 = .ok (.getfield 3, 3) := dk_180 0 3 (dk_at dksX8_seek_0 5 rfl rfl)
theorem dX8_seek_8 : decode cX8_seek 8 = .ok (.invokevirtual 30, 3) := dk_182 0 30 (dk_at dksX8_seek_0 8 rfl rfl)
theorem dX8_seek_11 : decode cX8_seek 11 = .ok (.if_icmp .ge 94, 3) := dk_162 0 94 (dk_at dksX8_seek_0 11 rfl rfl)
theorem dX8_seek_14 : decode cX8_seek 14 = .ok (.aload_n 0, 1) := dk_42 (dk_at dksX8_seek_0 14 rfl rfl)
theorem dX8_seek_15 : decode cX8_seek 15 = .ok (.dup, 1) := dk_89 (dk_at dksX8_seek_0 15 rfl rfl)
theorem dX8_seek_16 : decode cX8_seek 16 = .ok (.getfield 15, 3) := dk_180 0 15 (dk_at dksX8_seek_0 16 rfl rfl)
theorem dX8_seek_19 : decode cX8_seek 19 = .ok (.iconst 1, 1) := dk_4 (dk_at dksX8_seek_0 19 rfl rfl)
theorem dX8_seek_20 : decode cX8_seek 20 = .ok (.iadd, 1) := dk_96 (dk_at dksX8_seek_0 20 rfl rfl)
theorem dX8_seek_21 : decode cX8_seek 21 = .ok (.putfield 15, 3) := dk_181 0 15 (dk_at dksX8_seek_0 21 rfl rfl)
theorem dX8_seek_24 : decode cX8_seek 24 = .ok (.aload_n 0, 1) := dk_42 (dk_at dksX8_seek_1 0 rfl rfl)
theorem dX8_seek_25 : decode cX8_seek 25 = .ok (.aload_n 0, 1) := dk_42 (dk_at dksX8_seek_1 1 rfl rfl)
theorem dX8_seek_26 : decode cX8_seek 26 = .ok (.getfield 27, 3) := dk_180 0 27 (dk_at dksX8_seek_1 2 rfl rfl)
theorem dX8_seek_29 : decode cX8_seek 29 = .ok (.invokevirtual 36, 3) := dk_182 0 36 (dk_at dksX8_seek_1 5 rfl rfl)
theorem dX8_seek_32 : decode cX8_seek 32 = .ok (.aload_n 0, 1) := dk_42 (dk_at dksX8_seek_1 8 rfl rfl)
theorem dX8_seek_33 : decode cX8_seek 33 = .ok (.getfield 15, 3) := dk_180 0 15 (dk_at dksX8_seek_1 9 rfl rfl)
theorem dX8_seek_36 : decode cX8_seek 36 = .ok (.invokevirtual 39, 3) := dk_182 0 39 (dk_at dksX8_seek_1 12 rfl rfl)
theorem dX8_seek_39 : decode cX8_seek 39 = .ok (.istore_n 1, 1) := dk_60 (dk_at dksX8_seek_1 15 rfl rfl)
theorem dX8_seek_40 : decode cX8_seek 40 = .ok (.iload_n 1, 1) := dk_27 (dk_at dksX8_seek_1 16 rfl rfl)
theorem dX8_seek_41 : decode cX8_seek 41 = .ok (.bipush 123, 2) := dk_16 123 (dk_at dksX8_seek_1 17 rfl rfl)
theorem dX8_seek_43 : decode cX8_seek 43 = .ok (.if_icmp .eq 9, 3) := dk_159 0 9 (dk_at dksX8_seek_1 19 rfl rfl)
theorem dX8_seek_46 : decode cX8_seek 46 = .ok (.iload_n 1, 1) := dk_27 (dk_at dksX8_seek_1 22 rfl rfl)
theorem dX8_seek_47 : decode cX8_seek 47 = .ok (.bipush 125, 2) := dk_16 125 (dk_at dksX8_seek_2 0 rfl rfl)
theorem dX8_seek_49 : decode cX8_seek 49 = .ok (.if_icmp .ne 30, 3) := dk_160 0 30 (dk_at dksX8_seek_2 2 rfl rfl)
theorem dX8_seek_52 : decode cX8_seek 52 = .ok (.new 45, 3) := dk_187 0 45 (dk_at dksX8_seek_2 5 rfl rfl)
theorem dX8_seek_55 : decode cX8_seek 55 = .ok (.dup, 1) := dk_89 (dk_at dksX8_seek_2 8 rfl rfl)
theorem dX8_seek_56 : decode cX8_seek 56 = .ok (.aload_n 0, 1) := dk_42 (dk_at dksX8_seek_2 9 rfl rfl)
theorem dX8_seek_57 : decode cX8_seek 57 = .ok (.getfield 27, 3) := dk_180 0 27 (dk_at dksX8_seek_2 10 rfl rfl)
theorem dX8_seek_60 : decode cX8_seek 60 = .ok (.aload_n 0, 1) := dk_42 (dk_at dksX8_seek_2 13 rfl rfl)
theorem dX8_seek_61 : decode cX8_seek 61 = .ok (.getfield 15, 3) := dk_180 0 15 (dk_at dksX8_seek_2 14 rfl rfl)
theorem dX8_seek_64 : decode cX8_seek 64 = .ok (.iload_n 1, 1) := dk_27 (dk_at dksX8_seek_2 17 rfl rfl)
theorem dX8_seek_65 : decode cX8_seek 65 = .ok (.bipush 123, 2) := dk_16 123 (dk_at dksX8_seek_2 18 rfl rfl)
theorem dX8_seek_67 : decode cX8_seek 67 = .ok (.if_icmp .ne 7, 3) := dk_160 0 7 (dk_at dksX8_seek_2 20 rfl rfl)
theorem dX8_seek_70 : decode cX8_seek 70 = .ok (.iconst 1, 1) := dk_4 (dk_at dksX8_seek_2 23 rfl rfl)
theorem dX8_seek_71 : decode cX8_seek 71 = .ok (.goto 4, 3) := dk_167 0 4 (dk_at dksX8_seek_3 0 rfl rfl)
theorem dX8_seek_74 : decode cX8_seek 74 = .ok (.iconst 0, 1) := dk_3 (dk_at dksX8_seek_3 3 rfl rfl)
theorem dX8_seek_75 : decode cX8_seek 75 = .ok (.invokespecial 47, 3) := dk_183 0 47 (dk_at dksX8_seek_3 4 rfl rfl)
theorem dX8_seek_78 : decode cX8_seek 78 = .ok (.areturn, 1) := dk_176 (dk_at dksX8_seek_3 7 rfl rfl)
theorem dX8_seek_79 : decode cX8_seek 79 = .ok (.iload_n 1, 1) := dk_27 (dk_at dksX8_seek_3 8 rfl rfl)
theorem dX8_seek_80 : decode cX8_seek 80 = .ok (.iconst (-1), 1) := dk_2 (dk_at dksX8_seek_3 9 rfl rfl)
theorem dX8_seek_81 : decode cX8_seek 81 = .ok (.if_icmp .eq 6, 3) := dk_159 0 6 (dk_at dksX8_seek_3 10 rfl rfl)
theorem dX8_seek_84 : decode cX8_seek 84 = .ok (.goto (-84), 3) := dk_167 255 172 (dk_at dksX8_seek_3 13 rfl rfl)
theorem dX8_seek_87 : decode cX8_seek 87 = .ok (.aload_n 0, 1) := dk_42 (dk_at dksX8_seek_3 16 rfl rfl)
theorem dX8_seek_88 : decode cX8_seek 88 = .ok (.dup, 1) := dk_89 (dk_at dksX8_seek_3 17 rfl rfl)
theorem dX8_seek_89 : decode cX8_seek 89 = .ok (.getfield 27, 3) := dk_180 0 27 (dk_at dksX8_seek_3 18 rfl rfl)
theorem dX8_seek_92 : decode cX8_seek 92 = .ok (.iconst 1, 1) := dk_4 (dk_at dksX8_seek_3 21 rfl rfl)
theorem dX8_seek_93 : decode cX8_seek 93 = .ok (.iadd, 1) := dk_96 (dk_at dksX8_seek_3 22 rfl rfl)
theorem dX8_seek_94 : decode cX8_seek 94 = .ok (.putfield 27, 3) := dk_181 0 27 (dk_at dksX8_seek_4 0 rfl rfl)
theorem dX8_seek_97 : decode cX8_seek 97 = .ok (.aload_n 0, 1) := dk_42 (dk_at dksX8_seek_4 3 rfl rfl)
theorem dX8_seek_98 : decode cX8_seek 98 = .ok (.iconst (-1), 1) := dk_2 (dk_at dksX8_seek_4 4 rfl rfl)
theorem dX8_seek_99 : decode cX8_seek 99 = .ok (.putfield 15, 3) := dk_181 0 15 (dk_at dksX8_seek_4 5 rfl rfl)
theorem dX8_seek_102 : decode cX8_seek 102 = .ok (.goto (-102), 3) := dk_167 255 154 (dk_at dksX8_seek_4 8 rfl rfl)
theorem dX8_seek_105 : decode cX8_seek 105 = .ok (.aconst_null, 1) := dk_1 (dk_at dksX8_seek_4 11 rfl rfl)
theorem dX8_seek_106 : decode cX8_seek 106 = .ok (.areturn, 1) := dk_176 (dk_at dksX8_seek_4 12 rfl rfl)
abbrev cX8_line : ByteArray := prog_13_method_3_code
def yX8_line : MethodName := ⟨RX8, "line", "(I)LFoldLister$Line;"⟩
def dkwX8_line_0 : List UInt8 := [42, 180, 0, 3, 180, 0, 50, 27, 185, 0, 54, 2, 0, 192, 0, 40, 176]
abbrev dktX8_line_0 : List UInt8 := dkwX8_line_0 ++ []
theorem dksX8_line_0 : cX8_line.data.toList.drop 0 = dktX8_line_0 := by decide +kernel
theorem dX8_line_0 : decode cX8_line 0 = .ok (.aload_n 0, 1) := dk_42 (dk_at dksX8_line_0 0 rfl rfl)
theorem dX8_line_1 : decode cX8_line 1 = .ok (.getfield 3, 3) := dk_180 0 3 (dk_at dksX8_line_0 1 rfl rfl)
theorem dX8_line_4 : decode cX8_line 4 = .ok (.getfield 50, 3) := dk_180 0 50 (dk_at dksX8_line_0 4 rfl rfl)
theorem dX8_line_7 : decode cX8_line 7 = .ok (.iload_n 1, 1) := dk_27 (dk_at dksX8_line_0 7 rfl rfl)
theorem dX8_line_8 : decode cX8_line 8 = .ok (.invokeinterface 54 2, 5) := by decide +kernel
theorem dX8_line_13 : decode cX8_line 13 = .ok (.checkcast 40, 3) := dk_192 0 40 (dk_at dksX8_line_0 13 rfl rfl)
theorem dX8_line_16 : decode cX8_line 16 = .ok (.areturn, 1) := dk_176 (dk_at dksX8_line_0 16 rfl rfl)
abbrev cX8_hasNext : ByteArray := prog_13_method_4_code
def yX8_hasNext : MethodName := ⟨RX8, "hasNext", "()Z"⟩
def dkwX8_hasNext_0 : List UInt8 := [42, 180, 0, 23, 198, 0, 7, 4, 167, 0, 4, 3, 172]
abbrev dktX8_hasNext_0 : List UInt8 := dkwX8_hasNext_0 ++ []
theorem dksX8_hasNext_0 : cX8_hasNext.data.toList.drop 0 = dktX8_hasNext_0 := by decide +kernel
theorem dX8_hasNext_0 : decode cX8_hasNext 0 = .ok (.aload_n 0, 1) := dk_42 (dk_at dksX8_hasNext_0 0 rfl rfl)
theorem dX8_hasNext_1 : decode cX8_hasNext 1 = .ok (.getfield 23, 3) := dk_180 0 23 (dk_at dksX8_hasNext_0 1 rfl rfl)
theorem dX8_hasNext_4 : decode cX8_hasNext 4 = .ok (.ifnull 7, 3) := dk_198 0 7 (dk_at dksX8_hasNext_0 4 rfl rfl)
theorem dX8_hasNext_7 : decode cX8_hasNext 7 = .ok (.iconst 1, 1) := dk_4 (dk_at dksX8_hasNext_0 7 rfl rfl)
theorem dX8_hasNext_8 : decode cX8_hasNext 8 = .ok (.goto 4, 3) := dk_167 0 4 (dk_at dksX8_hasNext_0 8 rfl rfl)
theorem dX8_hasNext_11 : decode cX8_hasNext 11 = .ok (.iconst 0, 1) := dk_3 (dk_at dksX8_hasNext_0 11 rfl rfl)
theorem dX8_hasNext_12 : decode cX8_hasNext 12 = .ok (.ireturn, 1) := dk_172 (dk_at dksX8_hasNext_0 12 rfl rfl)
abbrev cX8_next : ByteArray := prog_13_method_6_code
def yX8_next : MethodName := ⟨RX8, "next", "()Ljava/lang/Object;"⟩
theorem dX8_next_0 : decode cX8_next 0 = .ok (.aload_n 0, 1) := by decide +kernel
theorem dX8_next_1 : decode cX8_next 1 = .ok (.invokevirtual 60, 3) := by decide +kernel
theorem dX8_next_4 : decode cX8_next 4 = .ok (.areturn, 1) := by decide +kernel
abbrev cX8_next_2 : ByteArray := prog_13_method_5_code
def yX8_next_2 : MethodName := ⟨RX8, "next", "()LFoldLister$Bracket;"⟩
def dkwX8_next_2_0 : List UInt8 := [42, 180, 0, 23, 76, 42, 42, 182, 0, 19, 181, 0, 23, 43, 176]
abbrev dktX8_next_2_0 : List UInt8 := dkwX8_next_2_0 ++ []
theorem dksX8_next_2_0 : cX8_next_2.data.toList.drop 0 = dktX8_next_2_0 := by decide +kernel
theorem dX8_next_2_0 : decode cX8_next_2 0 = .ok (.aload_n 0, 1) := dk_42 (dk_at dksX8_next_2_0 0 rfl rfl)
theorem dX8_next_2_1 : decode cX8_next_2 1 = .ok (.getfield 23, 3) := dk_180 0 23 (dk_at dksX8_next_2_0 1 rfl rfl)
theorem dX8_next_2_4 : decode cX8_next_2 4 = .ok (.astore_n 1, 1) := dk_76 (dk_at dksX8_next_2_0 4 rfl rfl)
theorem dX8_next_2_5 : decode cX8_next_2 5 = .ok (.aload_n 0, 1) := dk_42 (dk_at dksX8_next_2_0 5 rfl rfl)
theorem dX8_next_2_6 : decode cX8_next_2 6 = .ok (.aload_n 0, 1) := dk_42 (dk_at dksX8_next_2_0 6 rfl rfl)
theorem dX8_next_2_7 : decode cX8_next_2 7 = .ok (.invokevirtual 19, 3) := dk_182 0 19 (dk_at dksX8_next_2_0 7 rfl rfl)
theorem dX8_next_2_10 : decode cX8_next_2 10 = .ok (.putfield 23, 3) := dk_181 0 23 (dk_at dksX8_next_2_0 10 rfl rfl)
theorem dX8_next_2_13 : decode cX8_next_2 13 = .ok (.aload_n 1, 1) := dk_43 (dk_at dksX8_next_2_0 13 rfl rfl)
theorem dX8_next_2_14 : decode cX8_next_2 14 = .ok (.areturn, 1) := dk_176 (dk_at dksX8_next_2_0 14 rfl rfl)
theorem q137 : (Jvm.Cond.initialized "FoldLister$Page$1") ∈ lw_all := lw_g (lw_at lw_m1 34 rfl) rfl
theorem q234 : (Jvm.Cond.fieldLinkNest "FoldLister$Page$1" (50 : Nat) "FoldLister$Page" "lines" "Ljava/util/List;" "FoldLister") ∈ lw_tbl := lw_at lw_m1 131 rfl
theorem q761 : (Jvm.Cond.instantiable "FoldLister$Page$1" (4 : Nat)) ∈ lw_all := lw_g (lw_at lw_m3 178 rfl) rfl
theorem q763 : (Jvm.Cond.instanceMethod ({ cls := "FoldLister$Page$1", name := "<init>", desc := "(LFoldLister$Page;)V" } : Jvm.MethodName)) ∈ lw_all := lw_g (lw_at lw_m3 180 rfl) rfl
theorem q764 : (Jvm.Cond.code ({ cls := "FoldLister$Page$1", name := "<init>", desc := "(LFoldLister$Page;)V" } : Jvm.MethodName) prog_13_method_1_code (2 : Nat) (Option.none : Option Jvm.ClassFile.FieldType)) ∈ lw_all := lw_g (lw_at lw_m3 181 rfl) rfl
theorem q765 : (Jvm.Cond.methodLink "FoldLister$Page$1" (9 : Nat) ({ cls := "java/lang/Object", name := "<init>", desc := "()V" } : Jvm.MethodName)) ∈ lw_all := lw_g (lw_at lw_m3 182 rfl) rfl
theorem q766 : (Jvm.Cond.methodLink "FoldLister$Page$1" (19 : Nat) ({ cls := "FoldLister$Page$1", name := "seek", desc := "()LFoldLister$Bracket;" } : Jvm.MethodName)) ∈ lw_all := lw_g (lw_at lw_m3 183 rfl) rfl
theorem q767 : (Jvm.Cond.privateMethod ({ cls := "FoldLister$Page$1", name := "seek", desc := "()LFoldLister$Bracket;" } : Jvm.MethodName)) ∈ lw_tbl := lw_at lw_m3 184 rfl
theorem q768 : (Jvm.Cond.instanceMethod ({ cls := "FoldLister$Page$1", name := "seek", desc := "()LFoldLister$Bracket;" } : Jvm.MethodName)) ∈ lw_all := lw_g (lw_at lw_m3 185 rfl) rfl
theorem q769 : (Jvm.Cond.code ({ cls := "FoldLister$Page$1", name := "seek", desc := "()LFoldLister$Bracket;" } : Jvm.MethodName) prog_13_method_2_code (2 : Nat) (Option.some (Jvm.ClassFile.FieldType.object "FoldLister$Bracket"))) ∈ lw_all := lw_g (lw_at lw_m3 186 rfl) rfl
theorem q770 : (Jvm.Cond.methodLink "FoldLister$Page$1" (30 : Nat) ({ cls := "FoldLister$Page", name := "size", desc := "()I" } : Jvm.MethodName)) ∈ lw_all := lw_g (lw_at lw_m3 187 rfl) rfl
theorem q771 : (Jvm.Cond.methodLink "FoldLister$Page$1" (36 : Nat) ({ cls := "FoldLister$Page$1", name := "line", desc := "(I)LFoldLister$Line;" } : Jvm.MethodName)) ∈ lw_all := lw_g (lw_at lw_m3 188 rfl) rfl
theorem q772 : (Jvm.Cond.privateMethod ({ cls := "FoldLister$Page$1", name := "line", desc := "(I)LFoldLister$Line;" } : Jvm.MethodName)) ∈ lw_tbl := lw_at lw_m3 189 rfl
theorem q773 : (Jvm.Cond.instanceMethod ({ cls := "FoldLister$Page$1", name := "line", desc := "(I)LFoldLister$Line;" } : Jvm.MethodName)) ∈ lw_all := lw_g (lw_at lw_m3 190 rfl) rfl
theorem q774 : (Jvm.Cond.code ({ cls := "FoldLister$Page$1", name := "line", desc := "(I)LFoldLister$Line;" } : Jvm.MethodName) prog_13_method_3_code (2 : Nat) (Option.some (Jvm.ClassFile.FieldType.object "FoldLister$Line"))) ∈ lw_all := lw_g (lw_at lw_m3 191 rfl) rfl
theorem q775 : (Jvm.Cond.interfaceEntry "FoldLister$Page$1" (54 : Nat)) ∈ lw_tbl := lw_at lw_m3 192 rfl
theorem q776 : (Jvm.Cond.methodLink "FoldLister$Page$1" (54 : Nat) ({ cls := "java/util/List", name := "get", desc := "(I)Ljava/lang/Object;" } : Jvm.MethodName)) ∈ lw_all := lw_g (lw_at lw_m3 193 rfl) rfl
theorem q777 : (Jvm.Cond.classLink "FoldLister$Page$1" (40 : Nat) "FoldLister$Line") ∈ lw_all := lw_g (lw_at lw_m3 194 rfl) rfl
theorem q778 : (Jvm.Cond.methodLink "FoldLister$Page$1" (39 : Nat) ({ cls := "FoldLister$Line", name := "byteAt", desc := "(I)I" } : Jvm.MethodName)) ∈ lw_all := lw_g (lw_at lw_m3 195 rfl) rfl
theorem q805 : (Jvm.Cond.classLink "FoldLister$Page$1" (45 : Nat) "FoldLister$Bracket") ∈ lw_all := lw_g (lw_at lw_m3 222 rfl) rfl
theorem q807 : (Jvm.Cond.methodLink "FoldLister$Page$1" (47 : Nat) ({ cls := "FoldLister$Bracket", name := "<init>", desc := "(IIZ)V" } : Jvm.MethodName)) ∈ lw_all := lw_g (lw_at lw_m3 224 rfl) rfl
theorem q840 : (Jvm.Cond.fieldLink "FoldLister$Page$1" (27 : Nat) "FoldLister$Page$1" "line" "I") ∈ lw_all := lw_g (lw_at lw_m4 17 rfl) rfl
theorem q841 : (Jvm.Cond.fieldLink "FoldLister$Page$1" (15 : Nat) "FoldLister$Page$1" "place" "I") ∈ lw_all := lw_g (lw_at lw_m4 18 rfl) rfl
theorem q842 : (Jvm.Cond.fieldLink "FoldLister$Page$1" (23 : Nat) "FoldLister$Page$1" "next" "LFoldLister$Bracket;") ∈ lw_all := lw_g (lw_at lw_m4 19 rfl) rfl
theorem q843 : (Jvm.Cond.fieldLink "FoldLister$Page$1" (3 : Nat) "FoldLister$Page$1" "this$0" "LFoldLister$Page;") ∈ lw_all := lw_g (lw_at lw_m4 20 rfl) rfl
theorem q844 : (Jvm.Cond.lays "FoldLister$Page$1" "FoldLister$Page$1" "line" "I") ∈ lw_all := lw_g (lw_at lw_m4 21 rfl) rfl
theorem q845 : (Jvm.Cond.soleField "FoldLister$Page$1" "line") ∈ lw_all := lw_g (lw_at lw_m4 22 rfl) rfl
theorem q846 : (Jvm.Cond.lays "FoldLister$Page$1" "FoldLister$Page$1" "place" "I") ∈ lw_all := lw_g (lw_at lw_m4 23 rfl) rfl
theorem q847 : (Jvm.Cond.soleField "FoldLister$Page$1" "place") ∈ lw_all := lw_g (lw_at lw_m4 24 rfl) rfl
theorem q848 : (Jvm.Cond.lays "FoldLister$Page$1" "FoldLister$Page$1" "next" "LFoldLister$Bracket;") ∈ lw_all := lw_g (lw_at lw_m4 25 rfl) rfl
theorem q849 : (Jvm.Cond.soleField "FoldLister$Page$1" "next") ∈ lw_all := lw_g (lw_at lw_m4 26 rfl) rfl
theorem q850 : (Jvm.Cond.laysFinal "FoldLister$Page$1" "FoldLister$Page$1" "this$0" "LFoldLister$Page;") ∈ lw_all := lw_g (lw_at lw_m4 27 rfl) rfl
theorem q851 : (Jvm.Cond.soleField "FoldLister$Page$1" "this$0") ∈ lw_all := lw_g (lw_at lw_m4 28 rfl) rfl
theorem q852 : (Jvm.Cond.superclass "FoldLister$Page$1" "java/lang/Object") ∈ lw_all := lw_g (lw_at lw_m4 29 rfl) rfl
theorem q857 : (Jvm.Cond.castable "FoldLister$Page$1" "java/util/Iterator") ∈ lw_tbl := lw_at lw_m4 34 rfl
theorem q858 : (Jvm.Cond.selects "FoldLister$Page$1" ({ cls := "java/util/Iterator", name := "hasNext", desc := "()Z" } : Jvm.MethodName) ({ cls := "FoldLister$Page$1", name := "hasNext", desc := "()Z" } : Jvm.MethodName)) ∈ lw_all := lw_g (lw_at lw_m4 35 rfl) rfl
theorem q859 : (Jvm.Cond.unhidden "FoldLister$Page$1" "hasNext" "()Z") ∈ lw_tbl := lw_at lw_m4 36 rfl
theorem q860 : (Jvm.Cond.instanceMethod ({ cls := "FoldLister$Page$1", name := "hasNext", desc := "()Z" } : Jvm.MethodName)) ∈ lw_all := lw_g (lw_at lw_m4 37 rfl) rfl
theorem q861 : (Jvm.Cond.publicMethod ({ cls := "FoldLister$Page$1", name := "hasNext", desc := "()Z" } : Jvm.MethodName)) ∈ lw_tbl := lw_at lw_m4 38 rfl
theorem q862 : (Jvm.Cond.code ({ cls := "FoldLister$Page$1", name := "hasNext", desc := "()Z" } : Jvm.MethodName) prog_13_method_4_code (1 : Nat) (Option.some Jvm.ClassFile.FieldType.boolean)) ∈ lw_all := lw_g (lw_at lw_m4 39 rfl) rfl
theorem q900 : (Jvm.Cond.selects "FoldLister$Page$1" ({ cls := "java/util/Iterator", name := "next", desc := "()Ljava/lang/Object;" } : Jvm.MethodName) ({ cls := "FoldLister$Page$1", name := "next", desc := "()Ljava/lang/Object;" } : Jvm.MethodName)) ∈ lw_all := lw_g (lw_at lw_m4 77 rfl) rfl
theorem q901 : (Jvm.Cond.unhidden "FoldLister$Page$1" "next" "()Ljava/lang/Object;") ∈ lw_tbl := lw_at lw_m4 78 rfl
theorem q902 : (Jvm.Cond.instanceMethod ({ cls := "FoldLister$Page$1", name := "next", desc := "()Ljava/lang/Object;" } : Jvm.MethodName)) ∈ lw_all := lw_g (lw_at lw_m4 79 rfl) rfl
theorem q903 : (Jvm.Cond.publicMethod ({ cls := "FoldLister$Page$1", name := "next", desc := "()Ljava/lang/Object;" } : Jvm.MethodName)) ∈ lw_tbl := lw_at lw_m4 80 rfl
theorem q904 : (Jvm.Cond.code ({ cls := "FoldLister$Page$1", name := "next", desc := "()Ljava/lang/Object;" } : Jvm.MethodName) prog_13_method_6_code (1 : Nat) (Option.some (Jvm.ClassFile.FieldType.object "java/lang/Object"))) ∈ lw_all := lw_g (lw_at lw_m4 81 rfl) rfl
theorem q905 : (Jvm.Cond.methodLink "FoldLister$Page$1" (60 : Nat) ({ cls := "FoldLister$Page$1", name := "next", desc := "()LFoldLister$Bracket;" } : Jvm.MethodName)) ∈ lw_all := lw_g (lw_at lw_m4 82 rfl) rfl
theorem q906 : (Jvm.Cond.instanceMethod ({ cls := "FoldLister$Page$1", name := "next", desc := "()LFoldLister$Bracket;" } : Jvm.MethodName)) ∈ lw_all := lw_g (lw_at lw_m4 83 rfl) rfl
theorem q907 : (Jvm.Cond.selects "FoldLister$Page$1" ({ cls := "FoldLister$Page$1", name := "next", desc := "()LFoldLister$Bracket;" } : Jvm.MethodName) ({ cls := "FoldLister$Page$1", name := "next", desc := "()LFoldLister$Bracket;" } : Jvm.MethodName)) ∈ lw_all := lw_g (lw_at lw_m4 84 rfl) rfl
theorem q908 : (Jvm.Cond.code ({ cls := "FoldLister$Page$1", name := "next", desc := "()LFoldLister$Bracket;" } : Jvm.MethodName) prog_13_method_5_code (2 : Nat) (Option.some (Jvm.ClassFile.FieldType.object "FoldLister$Bracket"))) ∈ lw_all := lw_g (lw_at lw_m4 85 rfl) rfl
theorem q999 : (Jvm.Cond.selects "FoldLister$Page$1" ({ cls := "java/lang/Object", name := "getClass", desc := "()Ljava/lang/Class;" } : Jvm.MethodName) ({ cls := "java/lang/Object", name := "getClass", desc := "()Ljava/lang/Class;" } : Jvm.MethodName)) ∈ lw_all := lw_g (lw_at lw_m4 176 rfl) rfl
theorem q2679 : (Jvm.Cond.unhidden "FoldLister$Page$1" "remove" "()V") ∈ lw_tbl := lw_at lw_m11 176 rfl
theorem q3622 : (Jvm.Cond.castable "FoldLister$Page$1" "java/lang/Object") ∈ lw_tbl := lw_at lw_m15 159 rfl
theorem in_X8 : ∀ w ∈ wsX80, w ∈ lw_all := lw_in wsX80 [844, 846, 848, 850] (by decide +kernel) (by decide +kernel)
/-! FoldLister$Bracket -/
set_option maxRecDepth 100000
def RX9 : String := "FoldLister$Bracket"
def TX9 : u_T := fun k => match k with
  | 0 => ("FoldLister$Bracket", "line", "I", true)
  | 1 => ("FoldLister$Bracket", "place", "I", true)
  | 2 => ("FoldLister$Bracket", "opens", "Z", true)
  | 3 => ("FoldLister$Bracket", "partner", "LFoldLister$Bracket;", false)
  | 4 => ("FoldLister$Bracket", "around", "LFoldLister$Bracket;", false)
  | _ => ("FoldLister$Bracket", "region", "LFoldLister$Region;", false)
def tyX9 : Nat → FieldType := fun k => match k with
  | 0 => .int
  | 1 => .int
  | 2 => .boolean
  | 3 => .object "FoldLister$Bracket"
  | 4 => .object "FoldLister$Bracket"
  | _ => .object "FoldLister$Region"
abbrev wsX90 : List Cond := u_ws RX9 TX9 6
theorem nmX9 : ∀ a, a < 6 → ∀ b, b < 6 → a ≠ b → (TX9 a).2.1 ≠ (TX9 b).2.1 := by decide +kernel
theorem tyX9_ok : ∀ k, k < 6 → parseFieldDescriptor (TX9 k).2.2.1 = some (tyX9 k) := by decide +kernel
abbrev cX9_init : ByteArray := prog_7_method_1_code
def yX9_init : MethodName := ⟨RX9, "<init>", "(IIZ)V"⟩
def dkwX9_init_0 : List UInt8 := [42, 183, 0, 1, 42, 27, 181, 0, 7, 42, 28, 181, 0, 13, 42, 29, 181, 0, 16, 177]
abbrev dktX9_init_0 : List UInt8 := dkwX9_init_0 ++ []
theorem dksX9_init_0 : cX9_init.data.toList.drop 0 = dktX9_init_0 := by decide +kernel
theorem dX9_init_0 : decode cX9_init 0 = .ok (.aload_n 0, 1) := dk_42 (dk_at dksX9_init_0 0 rfl rfl)
theorem dX9_init_1 : decode cX9_init 1 = .ok (.invokespecial 1, 3) := dk_183 0 1 (dk_at dksX9_init_0 1 rfl rfl)
theorem dX9_init_4 : decode cX9_init 4 = .ok (.aload_n 0, 1) := dk_42 (dk_at dksX9_init_0 4 rfl rfl)
theorem dX9_init_5 : decode cX9_init 5 = .ok (.iload_n 1, 1) := dk_27 (dk_at dksX9_init_0 5 rfl rfl)
theorem dX9_init_6 : decode cX9_init 6 = .ok (.putfield 7, 3) := dk_181 0 7 (dk_at dksX9_init_0 6 rfl rfl)
theorem dX9_init_9 : decode cX9_init 9 = .ok (.aload_n 0, 1) := dk_42 (dk_at dksX9_init_0 9 rfl rfl)
theorem dX9_init_10 : decode cX9_init 10 = .ok (.iload_n 2, 1) := dk_28 (dk_at dksX9_init_0 10 rfl rfl)
theorem dX9_init_11 : decode cX9_init 11 = .ok (.putfield 13, 3) := dk_181 0 13 (dk_at dksX9_init_0 11 rfl rfl)
theorem dX9_init_14 : decode cX9_init 14 = .ok (.aload_n 0, 1) := dk_42 (dk_at dksX9_init_0 14 rfl rfl)
theorem dX9_init_15 : decode cX9_init 15 = .ok (.iload_n 3, 1) := dk_29 (dk_at dksX9_init_0 15 rfl rfl)
theorem dX9_init_16 : decode cX9_init 16 = .ok (.putfield 16, 3) := dk_181 0 16 (dk_at dksX9_init_0 16 rfl rfl)
theorem dX9_init_19 : decode cX9_init 19 = .ok (.return_, 1) := dk_177 (dk_at dksX9_init_0 19 rfl rfl)
abbrev cX9_isLoose : ByteArray := prog_7_method_3_code
def yX9_isLoose : MethodName := ⟨RX9, "isLoose", "()Z"⟩
def dkwX9_isLoose_0 : List UInt8 := [42, 180, 0, 20, 199, 0, 7, 4, 167, 0, 4, 3, 172]
abbrev dktX9_isLoose_0 : List UInt8 := dkwX9_isLoose_0 ++ []
theorem dksX9_isLoose_0 : cX9_isLoose.data.toList.drop 0 = dktX9_isLoose_0 := by decide +kernel
theorem dX9_isLoose_0 : decode cX9_isLoose 0 = .ok (.aload_n 0, 1) := dk_42 (dk_at dksX9_isLoose_0 0 rfl rfl)
theorem dX9_isLoose_1 : decode cX9_isLoose 1 = .ok (.getfield 20, 3) := dk_180 0 20 (dk_at dksX9_isLoose_0 1 rfl rfl)
theorem dX9_isLoose_4 : decode cX9_isLoose 4 = .ok (.ifnonnull 7, 3) := dk_199 0 7 (dk_at dksX9_isLoose_0 4 rfl rfl)
theorem dX9_isLoose_7 : decode cX9_isLoose 7 = .ok (.iconst 1, 1) := dk_4 (dk_at dksX9_isLoose_0 7 rfl rfl)
theorem dX9_isLoose_8 : decode cX9_isLoose 8 = .ok (.goto 4, 3) := dk_167 0 4 (dk_at dksX9_isLoose_0 8 rfl rfl)
theorem dX9_isLoose_11 : decode cX9_isLoose 11 = .ok (.iconst 0, 1) := dk_3 (dk_at dksX9_isLoose_0 11 rfl rfl)
theorem dX9_isLoose_12 : decode cX9_isLoose 12 = .ok (.ireturn, 1) := dk_172 (dk_at dksX9_isLoose_0 12 rfl rfl)
abbrev cX9_told : ByteArray := prog_7_method_2_code
def yX9_told : MethodName := ⟨RX9, "told", "()I"⟩
def dkwX9_told_0 : List UInt8 := [16, 100, 42, 180, 0, 7, 4, 96, 104, 42, 180, 0, 13, 96, 172]
abbrev dktX9_told_0 : List UInt8 := dkwX9_told_0 ++ []
theorem dksX9_told_0 : cX9_told.data.toList.drop 0 = dktX9_told_0 := by decide +kernel
theorem dX9_told_0 : decode cX9_told 0 = .ok (.bipush 100, 2) := dk_16 100 (dk_at dksX9_told_0 0 rfl rfl)
theorem dX9_told_2 : decode cX9_told 2 = .ok (.aload_n 0, 1) := dk_42 (dk_at dksX9_told_0 2 rfl rfl)
theorem dX9_told_3 : decode cX9_told 3 = .ok (.getfield 7, 3) := dk_180 0 7 (dk_at dksX9_told_0 3 rfl rfl)
theorem dX9_told_6 : decode cX9_told 6 = .ok (.iconst 1, 1) := dk_4 (dk_at dksX9_told_0 6 rfl rfl)
theorem dX9_told_7 : decode cX9_told 7 = .ok (.iadd, 1) := dk_96 (dk_at dksX9_told_0 7 rfl rfl)
theorem dX9_told_8 : decode cX9_told 8 = .ok (.imul, 1) := dk_104 (dk_at dksX9_told_0 8 rfl rfl)
theorem dX9_told_9 : decode cX9_told 9 = .ok (.aload_n 0, 1) := dk_42 (dk_at dksX9_told_0 9 rfl rfl)
theorem dX9_told_10 : decode cX9_told 10 = .ok (.getfield 13, 3) := dk_180 0 13 (dk_at dksX9_told_0 10 rfl rfl)
theorem dX9_told_13 : decode cX9_told 13 = .ok (.iadd, 1) := dk_96 (dk_at dksX9_told_0 13 rfl rfl)
theorem dX9_told_14 : decode cX9_told 14 = .ok (.ireturn, 1) := dk_172 (dk_at dksX9_told_0 14 rfl rfl)
theorem q139 : (Jvm.Cond.initialized "FoldLister$Bracket") ∈ lw_all := lw_g (lw_at lw_m1 36 rfl) rfl
theorem q806 : (Jvm.Cond.instantiable "FoldLister$Bracket" (6 : Nat)) ∈ lw_all := lw_g (lw_at lw_m3 223 rfl) rfl
theorem q808 : (Jvm.Cond.instanceMethod ({ cls := "FoldLister$Bracket", name := "<init>", desc := "(IIZ)V" } : Jvm.MethodName)) ∈ lw_all := lw_g (lw_at lw_m3 225 rfl) rfl
theorem q809 : (Jvm.Cond.code ({ cls := "FoldLister$Bracket", name := "<init>", desc := "(IIZ)V" } : Jvm.MethodName) prog_7_method_1_code (4 : Nat) (Option.none : Option Jvm.ClassFile.FieldType)) ∈ lw_all := lw_g (lw_at lw_m3 226 rfl) rfl
theorem q810 : (Jvm.Cond.methodLink "FoldLister$Bracket" (1 : Nat) ({ cls := "java/lang/Object", name := "<init>", desc := "()V" } : Jvm.MethodName)) ∈ lw_all := lw_g (lw_at lw_m3 227 rfl) rfl
theorem q811 : (Jvm.Cond.fieldLink "FoldLister$Bracket" (7 : Nat) "FoldLister$Bracket" "line" "I") ∈ lw_all := lw_g (lw_at lw_m3 228 rfl) rfl
theorem q814 : (Jvm.Cond.fieldLink "FoldLister$Bracket" (13 : Nat) "FoldLister$Bracket" "place" "I") ∈ lw_all := lw_g (lw_at lw_m3 231 rfl) rfl
theorem q817 : (Jvm.Cond.fieldLink "FoldLister$Bracket" (16 : Nat) "FoldLister$Bracket" "opens" "Z") ∈ lw_all := lw_g (lw_at lw_m3 234 rfl) rfl
theorem q821 : (Jvm.Cond.fieldLink "FoldLister$Bracket" (20 : Nat) "FoldLister$Bracket" "partner" "LFoldLister$Bracket;") ∈ lw_all := lw_g (lw_at lw_m3 238 rfl) rfl
theorem q827 : (Jvm.Cond.laysFinal "FoldLister$Bracket" "FoldLister$Bracket" "line" "I") ∈ lw_all := lw_g (lw_at lw_m4 4 rfl) rfl
theorem q828 : (Jvm.Cond.soleField "FoldLister$Bracket" "line") ∈ lw_all := lw_g (lw_at lw_m4 5 rfl) rfl
theorem q829 : (Jvm.Cond.laysFinal "FoldLister$Bracket" "FoldLister$Bracket" "place" "I") ∈ lw_all := lw_g (lw_at lw_m4 6 rfl) rfl
theorem q830 : (Jvm.Cond.soleField "FoldLister$Bracket" "place") ∈ lw_all := lw_g (lw_at lw_m4 7 rfl) rfl
theorem q831 : (Jvm.Cond.laysFinal "FoldLister$Bracket" "FoldLister$Bracket" "opens" "Z") ∈ lw_all := lw_g (lw_at lw_m4 8 rfl) rfl
theorem q832 : (Jvm.Cond.soleField "FoldLister$Bracket" "opens") ∈ lw_all := lw_g (lw_at lw_m4 9 rfl) rfl
theorem q833 : (Jvm.Cond.lays "FoldLister$Bracket" "FoldLister$Bracket" "partner" "LFoldLister$Bracket;") ∈ lw_all := lw_g (lw_at lw_m4 10 rfl) rfl
theorem q834 : (Jvm.Cond.soleField "FoldLister$Bracket" "partner") ∈ lw_all := lw_g (lw_at lw_m4 11 rfl) rfl
theorem q835 : (Jvm.Cond.lays "FoldLister$Bracket" "FoldLister$Bracket" "around" "LFoldLister$Bracket;") ∈ lw_all := lw_g (lw_at lw_m4 12 rfl) rfl
theorem q836 : (Jvm.Cond.soleField "FoldLister$Bracket" "around") ∈ lw_all := lw_g (lw_at lw_m4 13 rfl) rfl
theorem q837 : (Jvm.Cond.lays "FoldLister$Bracket" "FoldLister$Bracket" "region" "LFoldLister$Region;") ∈ lw_all := lw_g (lw_at lw_m4 14 rfl) rfl
theorem q838 : (Jvm.Cond.soleField "FoldLister$Bracket" "region") ∈ lw_all := lw_g (lw_at lw_m4 15 rfl) rfl
theorem q839 : (Jvm.Cond.superclass "FoldLister$Bracket" "java/lang/Object") ∈ lw_all := lw_g (lw_at lw_m4 16 rfl) rfl
theorem q995 : (Jvm.Cond.selects "FoldLister$Bracket" ({ cls := "java/lang/Object", name := "getClass", desc := "()Ljava/lang/Class;" } : Jvm.MethodName) ({ cls := "java/lang/Object", name := "getClass", desc := "()Ljava/lang/Class;" } : Jvm.MethodName)) ∈ lw_all := lw_g (lw_at lw_m4 172 rfl) rfl
theorem q1317 : (Jvm.Cond.instanceMethod ({ cls := "FoldLister$Bracket", name := "isLoose", desc := "()Z" } : Jvm.MethodName)) ∈ lw_all := lw_g (lw_at lw_m6 14 rfl) rfl
theorem q1318 : (Jvm.Cond.selects "FoldLister$Bracket" ({ cls := "FoldLister$Bracket", name := "isLoose", desc := "()Z" } : Jvm.MethodName) ({ cls := "FoldLister$Bracket", name := "isLoose", desc := "()Z" } : Jvm.MethodName)) ∈ lw_all := lw_g (lw_at lw_m6 15 rfl) rfl
theorem q1319 : (Jvm.Cond.code ({ cls := "FoldLister$Bracket", name := "isLoose", desc := "()Z" } : Jvm.MethodName) prog_7_method_3_code (1 : Nat) (Option.some Jvm.ClassFile.FieldType.boolean)) ∈ lw_all := lw_g (lw_at lw_m6 16 rfl) rfl
theorem q2424 : (Jvm.Cond.instanceMethod ({ cls := "FoldLister$Bracket", name := "told", desc := "()I" } : Jvm.MethodName)) ∈ lw_all := lw_g (lw_at lw_m10 161 rfl) rfl
theorem q2425 : (Jvm.Cond.selects "FoldLister$Bracket" ({ cls := "FoldLister$Bracket", name := "told", desc := "()I" } : Jvm.MethodName) ({ cls := "FoldLister$Bracket", name := "told", desc := "()I" } : Jvm.MethodName)) ∈ lw_all := lw_g (lw_at lw_m10 162 rfl) rfl
theorem q2426 : (Jvm.Cond.code ({ cls := "FoldLister$Bracket", name := "told", desc := "()I" } : Jvm.MethodName) prog_7_method_2_code (1 : Nat) (Option.some Jvm.ClassFile.FieldType.int)) ∈ lw_all := lw_g (lw_at lw_m10 163 rfl) rfl
theorem q3623 : (Jvm.Cond.castable "FoldLister$Bracket" "java/lang/Object") ∈ lw_tbl := lw_at lw_m15 160 rfl
theorem in_X9 : ∀ w ∈ wsX90, w ∈ lw_all := lw_in wsX90 [827, 829, 831, 833, 835, 837] (by decide +kernel) (by decide +kernel)
/-! FoldLister$Region -/
set_option maxRecDepth 100000
def RX10 : String := "FoldLister$Region"
def TX10 : u_T := fun k => match k with
  | 0 => ("FoldLister$Region", "number", "I", true)
  | 1 => ("FoldLister$Region", "from", "LFoldLister$Bracket;", true)
  | 2 => ("FoldLister$Region", "to", "LFoldLister$Bracket;", true)
  | 3 => ("FoldLister$Region", "around", "LFoldLister$Region;", false)
  | _ => ("FoldLister$Region", "level", "I", false)
def tyX10 : Nat → FieldType := fun k => match k with
  | 0 => .int
  | 1 => .object "FoldLister$Bracket"
  | 2 => .object "FoldLister$Bracket"
  | 3 => .object "FoldLister$Region"
  | _ => .int
abbrev wsX100 : List Cond := u_ws RX10 TX10 5
theorem nmX10 : ∀ a, a < 5 → ∀ b, b < 5 → a ≠ b → (TX10 a).2.1 ≠ (TX10 b).2.1 := by decide +kernel
theorem tyX10_ok : ∀ k, k < 5 → parseFieldDescriptor (TX10 k).2.2.1 = some (tyX10 k) := by decide +kernel
abbrev cX10_init : ByteArray := prog_17_method_1_code
def yX10_init : MethodName := ⟨RX10, "<init>", "(ILFoldLister$Bracket;)V"⟩
def dkwX10_init_0 : List UInt8 := [42, 183, 0, 1, 42, 27, 181, 0, 7, 42, 44, 181, 0, 13, 42, 44, 180, 0, 17, 181, 0, 22, 177]
abbrev dktX10_init_0 : List UInt8 := dkwX10_init_0 ++ []
theorem dksX10_init_0 : cX10_init.data.toList.drop 0 = dktX10_init_0 := by decide +kernel
theorem dX10_init_0 : decode cX10_init 0 = .ok (.aload_n 0, 1) := dk_42 (dk_at dksX10_init_0 0 rfl rfl)
theorem dX10_init_1 : decode cX10_init 1 = .ok (.invokespecial 1, 3) := dk_183 0 1 (dk_at dksX10_init_0 1 rfl rfl)
theorem dX10_init_4 : decode cX10_init 4 = .ok (.aload_n 0, 1) := dk_42 (dk_at dksX10_init_0 4 rfl rfl)
theorem dX10_init_5 : decode cX10_init 5 = .ok (.iload_n 1, 1) := dk_27 (dk_at dksX10_init_0 5 rfl rfl)
theorem dX10_init_6 : decode cX10_init 6 = .ok (.putfield 7, 3) := dk_181 0 7 (dk_at dksX10_init_0 6 rfl rfl)
theorem dX10_init_9 : decode cX10_init 9 = .ok (.aload_n 0, 1) := dk_42 (dk_at dksX10_init_0 9 rfl rfl)
theorem dX10_init_10 : decode cX10_init 10 = .ok (.aload_n 2, 1) := dk_44 (dk_at dksX10_init_0 10 rfl rfl)
theorem dX10_init_11 : decode cX10_init 11 = .ok (.putfield 13, 3) := dk_181 0 13 (dk_at dksX10_init_0 11 rfl rfl)
theorem dX10_init_14 : decode cX10_init 14 = .ok (.aload_n 0, 1) := dk_42 (dk_at dksX10_init_0 14 rfl rfl)
theorem dX10_init_15 : decode cX10_init 15 = .ok (.aload_n 2, 1) := dk_44 (dk_at dksX10_init_0 15 rfl rfl)
theorem dX10_init_16 : decode cX10_init 16 = .ok (.getfield 17, 3) := dk_180 0 17 (dk_at dksX10_init_0 16 rfl rfl)
theorem dX10_init_19 : decode cX10_init 19 = .ok (.putfield 22, 3) := dk_181 0 22 (dk_at dksX10_init_0 19 rfl rfl)
theorem dX10_init_22 : decode cX10_init 22 = .ok (.return_, 1) := dk_177 (dk_at dksX10_init_0 22 rfl rfl)
abbrev cX10_finds : ByteArray := prog_17_method_5_code
def yX10_finds : MethodName := ⟨RX10, "finds", "()V"⟩
def dkwX10_finds_2 : List UInt8 := [199, 0, 7, 3, 167, 0, 12, 42, 180, 0, 42, 180, 0, 44, 4, 96, 181, 0, 44, 177]
abbrev dktX10_finds_2 : List UInt8 := dkwX10_finds_2 ++ []
def dkwX10_finds_1 : List UInt8 := [167, 255, 240, 42, 43, 199, 0, 7, 1, 167, 0, 7, 43, 180, 0, 38, 181, 0, 42, 42, 42, 180, 0, 42]
abbrev dktX10_finds_1 : List UInt8 := dkwX10_finds_1 ++ dktX10_finds_2
def dkwX10_finds_0 : List UInt8 := [42, 180, 0, 13, 180, 0, 35, 76, 43, 198, 0, 18, 43, 180, 0, 38, 199, 0, 11, 43, 180, 0, 35, 76]
abbrev dktX10_finds_0 : List UInt8 := dkwX10_finds_0 ++ dktX10_finds_1
theorem dksX10_finds_0 : cX10_finds.data.toList.drop 0 = dktX10_finds_0 := by decide +kernel
theorem dksX10_finds_1 : cX10_finds.data.toList.drop 24 = dktX10_finds_1 := dk_seg dksX10_finds_0 24 rfl rfl
theorem dksX10_finds_2 : cX10_finds.data.toList.drop 48 = dktX10_finds_2 := dk_seg dksX10_finds_1 24 rfl rfl
theorem dX10_finds_0 : decode cX10_finds 0 = .ok (.aload_n 0, 1) := dk_42 (dk_at dksX10_finds_0 0 rfl rfl)
theorem dX10_finds_1 : decode cX10_finds 1 = .ok (.getfield 13, 3) := dk_180 0 13 (dk_at dksX10_finds_0 1 rfl rfl)
theorem dX10_finds_4 : decode cX10_finds 4 = .ok (.getfield 35, 3) := dk_180 0 35 (dk_at dksX10_finds_0 4 rfl rfl)
theorem dX10_finds_7 : decode cX10_finds 7 = .ok (.astore_n 1, 1) := dk_76 (dk_at dksX10_finds_0 7 rfl rfl)
theorem dX10_finds_8 : decode cX10_finds 8 = .ok (.aload_n 1, 1) := dk_43 (dk_at dksX10_finds_0 8 rfl rfl)
theorem dX10_finds_9 : decode cX10_finds 9 = .ok (.ifnull 18, 3) := dk_198 0 18 (dk_at dksX10_finds_0 9 rfl rfl)
theorem dX10_finds_12 : decode cX10_finds 12 = .ok (.aload_n 1, 1) := dk_43 (dk_at dksX10_finds_0 12 rfl rfl)
theorem dX10_finds_13 : decode cX10_finds 13 = .ok (.getfield 38, 3) := dk_180 0 38 (dk_at dksX10_finds_0 13 rfl rfl)
theorem dX10_finds_16 : decode cX10_finds 16 = .ok (.ifnonnull 11, 3) := dk_199 0 11 (dk_at dksX10_finds_0 16 rfl rfl)
theorem dX10_finds_19 : decode cX10_finds 19 = .ok (.aload_n 1, 1) := dk_43 (dk_at dksX10_finds_0 19 rfl rfl)
theorem dX10_finds_20 : decode cX10_finds 20 = .ok (.getfield 35, 3) := dk_180 0 35 (dk_at dksX10_finds_0 20 rfl rfl)
theorem dX10_finds_23 : decode cX10_finds 23 = .ok (.astore_n 1, 1) := dk_76 (dk_at dksX10_finds_0 23 rfl rfl)
theorem dX10_finds_24 : decode cX10_finds 24 = .ok (.goto (-16), 3) := dk_167 255 240 (dk_at dksX10_finds_1 0 rfl rfl)
theorem dX10_finds_27 : decode cX10_finds 27 = .ok (.aload_n 0, 1) := dk_42 (dk_at dksX10_finds_1 3 rfl rfl)
theorem dX10_finds_28 : decode cX10_finds 28 = .ok (.aload_n 1, 1) := dk_43 (dk_at dksX10_finds_1 4 rfl rfl)
theorem dX10_finds_29 : decode cX10_finds 29 = .ok (.ifnonnull 7, 3) := dk_199 0 7 (dk_at dksX10_finds_1 5 rfl rfl)
theorem dX10_finds_32 : decode cX10_finds 32 = .ok (.aconst_null, 1) := dk_1 (dk_at dksX10_finds_1 8 rfl rfl)
theorem dX10_finds_33 : decode cX10_finds 33 = .ok (.goto 7, 3) := dk_167 0 7 (dk_at dksX10_finds_1 9 rfl rfl)
theorem dX10_finds_36 : decode cX10_finds 36 = .ok (.aload_n 1, 1) := dk_43 (dk_at dksX10_finds_1 12 rfl rfl)
theorem dX10_finds_37 : decode cX10_finds 37 = .ok (.getfield 38, 3) := dk_180 0 38 (dk_at dksX10_finds_1 13 rfl rfl)
theorem dX10_finds_40 : decode cX10_finds 40 = .ok (.putfield 42, 3) := dk_181 0 42 (dk_at dksX10_finds_1 16 rfl rfl)
theorem dX10_finds_43 : decode cX10_finds 43 = .ok (.aload_n 0, 1) := dk_42 (dk_at dksX10_finds_1 19 rfl rfl)
theorem dX10_finds_44 : decode cX10_finds 44 = .ok (.aload_n 0, 1) := dk_42 (dk_at dksX10_finds_1 20 rfl rfl)
theorem dX10_finds_45 : decode cX10_finds 45 = .ok (.getfield 42, 3) := dk_180 0 42 (dk_at dksX10_finds_1 21 rfl rfl)
theorem dX10_finds_48 : decode cX10_finds 48 = .ok (.ifnonnull 7, 3) := dk_199 0 7 (dk_at dksX10_finds_2 0 rfl rfl)
theorem dX10_finds_51 : decode cX10_finds 51 = .ok (.iconst 0, 1) := dk_3 (dk_at dksX10_finds_2 3 rfl rfl)
theorem dX10_finds_52 : decode cX10_finds 52 = .ok (.goto 12, 3) := dk_167 0 12 (dk_at dksX10_finds_2 4 rfl rfl)
theorem dX10_finds_55 : decode cX10_finds 55 = .ok (.aload_n 0, 1) := dk_42 (dk_at dksX10_finds_2 7 rfl rfl)
theorem dX10_finds_56 : decode cX10_finds 56 = .ok (.getfield 42, 3) := dk_180 0 42 (dk_at dksX10_finds_2 8 rfl rfl)
theorem dX10_finds_59 : decode cX10_finds 59 = .ok (.getfield 44, 3) := dk_180 0 44 (dk_at dksX10_finds_2 11 rfl rfl)
theorem dX10_finds_62 : decode cX10_finds 62 = .ok (.iconst 1, 1) := dk_4 (dk_at dksX10_finds_2 14 rfl rfl)
theorem dX10_finds_63 : decode cX10_finds 63 = .ok (.iadd, 1) := dk_96 (dk_at dksX10_finds_2 15 rfl rfl)
theorem dX10_finds_64 : decode cX10_finds 64 = .ok (.putfield 44, 3) := dk_181 0 44 (dk_at dksX10_finds_2 16 rfl rfl)
theorem dX10_finds_67 : decode cX10_finds 67 = .ok (.return_, 1) := dk_177 (dk_at dksX10_finds_2 19 rfl rfl)
abbrev cX10_first : ByteArray := prog_17_method_2_code
def yX10_first : MethodName := ⟨RX10, "first", "()I"⟩
def dkwX10_first_0 : List UInt8 := [42, 180, 0, 13, 180, 0, 25, 172]
abbrev dktX10_first_0 : List UInt8 := dkwX10_first_0 ++ []
theorem dksX10_first_0 : cX10_first.data.toList.drop 0 = dktX10_first_0 := by decide +kernel
theorem dX10_first_0 : decode cX10_first 0 = .ok (.aload_n 0, 1) := dk_42 (dk_at dksX10_first_0 0 rfl rfl)
theorem dX10_first_1 : decode cX10_first 1 = .ok (.getfield 13, 3) := dk_180 0 13 (dk_at dksX10_first_0 1 rfl rfl)
theorem dX10_first_4 : decode cX10_first 4 = .ok (.getfield 25, 3) := dk_180 0 25 (dk_at dksX10_first_0 4 rfl rfl)
theorem dX10_first_7 : decode cX10_first 7 = .ok (.ireturn, 1) := dk_172 (dk_at dksX10_first_0 7 rfl rfl)
abbrev cX10_last : ByteArray := prog_17_method_3_code
def yX10_last : MethodName := ⟨RX10, "last", "()I"⟩
def dkwX10_last_0 : List UInt8 := [42, 180, 0, 22, 180, 0, 25, 172]
abbrev dktX10_last_0 : List UInt8 := dkwX10_last_0 ++ []
theorem dksX10_last_0 : cX10_last.data.toList.drop 0 = dktX10_last_0 := by decide +kernel
theorem dX10_last_0 : decode cX10_last 0 = .ok (.aload_n 0, 1) := dk_42 (dk_at dksX10_last_0 0 rfl rfl)
theorem dX10_last_1 : decode cX10_last 1 = .ok (.getfield 22, 3) := dk_180 0 22 (dk_at dksX10_last_0 1 rfl rfl)
theorem dX10_last_4 : decode cX10_last 4 = .ok (.getfield 25, 3) := dk_180 0 25 (dk_at dksX10_last_0 4 rfl rfl)
theorem dX10_last_7 : decode cX10_last 7 = .ok (.ireturn, 1) := dk_172 (dk_at dksX10_last_0 7 rfl rfl)
abbrev cX10_hasInside : ByteArray := prog_17_method_4_code
def yX10_hasInside : MethodName := ⟨RX10, "hasInside", "(I)Z"⟩
def dkwX10_hasInside_0 : List UInt8 := [42, 182, 0, 28, 27, 162, 0, 15, 27, 42, 182, 0, 32, 162, 0, 7, 4, 167, 0, 4, 3, 172]
abbrev dktX10_hasInside_0 : List UInt8 := dkwX10_hasInside_0 ++ []
theorem dksX10_hasInside_0 : cX10_hasInside.data.toList.drop 0 = dktX10_hasInside_0 := by decide +kernel
theorem dX10_hasInside_0 : decode cX10_hasInside 0 = .ok (.aload_n 0, 1) := dk_42 (dk_at dksX10_hasInside_0 0 rfl rfl)
theorem dX10_hasInside_1 : decode cX10_hasInside 1 = .ok (.invokevirtual 28, 3) := dk_182 0 28 (dk_at dksX10_hasInside_0 1 rfl rfl)
theorem dX10_hasInside_4 : decode cX10_hasInside 4 = .ok (.iload_n 1, 1) := dk_27 (dk_at dksX10_hasInside_0 4 rfl rfl)
theorem dX10_hasInside_5 : decode cX10_hasInside 5 = .ok (.if_icmp .ge 15, 3) := dk_162 0 15 (dk_at dksX10_hasInside_0 5 rfl rfl)
theorem dX10_hasInside_8 : decode cX10_hasInside 8 = .ok (.iload_n 1, 1) := dk_27 (dk_at dksX10_hasInside_0 8 rfl rfl)
theorem dX10_hasInside_9 : decode cX10_hasInside 9 = .ok (.aload_n 0, 1) := dk_42 (dk_at dksX10_hasInside_0 9 rfl rfl)
theorem dX10_hasInside_10 : decode cX10_hasInside 10 = .ok (.invokevirtual 32, 3) := dk_182 0 32 (dk_at dksX10_hasInside_0 10 rfl rfl)
theorem dX10_hasInside_13 : decode cX10_hasInside 13 = .ok (.if_icmp .ge 7, 3) := dk_162 0 7 (dk_at dksX10_hasInside_0 13 rfl rfl)
theorem dX10_hasInside_16 : decode cX10_hasInside 16 = .ok (.iconst 1, 1) := dk_4 (dk_at dksX10_hasInside_0 16 rfl rfl)
theorem dX10_hasInside_17 : decode cX10_hasInside 17 = .ok (.goto 4, 3) := dk_167 0 4 (dk_at dksX10_hasInside_0 17 rfl rfl)
theorem dX10_hasInside_20 : decode cX10_hasInside 20 = .ok (.iconst 0, 1) := dk_3 (dk_at dksX10_hasInside_0 20 rfl rfl)
theorem dX10_hasInside_21 : decode cX10_hasInside 21 = .ok (.ireturn, 1) := dk_172 (dk_at dksX10_hasInside_0 21 rfl rfl)
theorem q148 : (Jvm.Cond.initialized "FoldLister$Region") ∈ lw_all := lw_g (lw_at lw_m1 45 rfl) rfl
theorem q813 : (Jvm.Cond.fieldLinkNest "FoldLister$Region" (25 : Nat) "FoldLister$Bracket" "line" "I" "FoldLister") ∈ lw_tbl := lw_at lw_m3 230 rfl
theorem q819 : (Jvm.Cond.fieldLinkNest "FoldLister$Region" (17 : Nat) "FoldLister$Bracket" "partner" "LFoldLister$Bracket;" "FoldLister") ∈ lw_tbl := lw_at lw_m3 236 rfl
theorem q824 : (Jvm.Cond.fieldLinkNest "FoldLister$Region" (35 : Nat) "FoldLister$Bracket" "around" "LFoldLister$Bracket;" "FoldLister") ∈ lw_tbl := lw_at lw_m4 1 rfl
theorem q826 : (Jvm.Cond.fieldLinkNest "FoldLister$Region" (38 : Nat) "FoldLister$Bracket" "region" "LFoldLister$Region;" "FoldLister") ∈ lw_tbl := lw_at lw_m4 3 rfl
theorem q1003 : (Jvm.Cond.selects "FoldLister$Region" ({ cls := "java/lang/Object", name := "getClass", desc := "()Ljava/lang/Class;" } : Jvm.MethodName) ({ cls := "java/lang/Object", name := "getClass", desc := "()Ljava/lang/Class;" } : Jvm.MethodName)) ∈ lw_all := lw_g (lw_at lw_m4 180 rfl) rfl
theorem q1321 : (Jvm.Cond.instantiable "FoldLister$Region" (5 : Nat)) ∈ lw_all := lw_g (lw_at lw_m6 18 rfl) rfl
theorem q1325 : (Jvm.Cond.instanceMethod ({ cls := "FoldLister$Region", name := "<init>", desc := "(ILFoldLister$Bracket;)V" } : Jvm.MethodName)) ∈ lw_all := lw_g (lw_at lw_m6 22 rfl) rfl
theorem q1326 : (Jvm.Cond.code ({ cls := "FoldLister$Region", name := "<init>", desc := "(ILFoldLister$Bracket;)V" } : Jvm.MethodName) prog_17_method_1_code (3 : Nat) (Option.none : Option Jvm.ClassFile.FieldType)) ∈ lw_all := lw_g (lw_at lw_m6 23 rfl) rfl
theorem q1327 : (Jvm.Cond.methodLink "FoldLister$Region" (1 : Nat) ({ cls := "java/lang/Object", name := "<init>", desc := "()V" } : Jvm.MethodName)) ∈ lw_all := lw_g (lw_at lw_m6 24 rfl) rfl
theorem q1328 : (Jvm.Cond.fieldLink "FoldLister$Region" (7 : Nat) "FoldLister$Region" "number" "I") ∈ lw_all := lw_g (lw_at lw_m6 25 rfl) rfl
theorem q1330 : (Jvm.Cond.fieldLink "FoldLister$Region" (13 : Nat) "FoldLister$Region" "from" "LFoldLister$Bracket;") ∈ lw_all := lw_g (lw_at lw_m6 27 rfl) rfl
theorem q1332 : (Jvm.Cond.fieldLink "FoldLister$Region" (22 : Nat) "FoldLister$Region" "to" "LFoldLister$Bracket;") ∈ lw_all := lw_g (lw_at lw_m6 29 rfl) rfl
theorem q1334 : (Jvm.Cond.fieldLink "FoldLister$Region" (42 : Nat) "FoldLister$Region" "around" "LFoldLister$Region;") ∈ lw_all := lw_g (lw_at lw_m6 31 rfl) rfl
theorem q1336 : (Jvm.Cond.fieldLink "FoldLister$Region" (44 : Nat) "FoldLister$Region" "level" "I") ∈ lw_all := lw_g (lw_at lw_m6 33 rfl) rfl
theorem q1339 : (Jvm.Cond.laysFinal "FoldLister$Region" "FoldLister$Region" "number" "I") ∈ lw_all := lw_g (lw_at lw_m6 36 rfl) rfl
theorem q1340 : (Jvm.Cond.soleField "FoldLister$Region" "number") ∈ lw_all := lw_g (lw_at lw_m6 37 rfl) rfl
theorem q1341 : (Jvm.Cond.laysFinal "FoldLister$Region" "FoldLister$Region" "from" "LFoldLister$Bracket;") ∈ lw_all := lw_g (lw_at lw_m6 38 rfl) rfl
theorem q1342 : (Jvm.Cond.soleField "FoldLister$Region" "from") ∈ lw_all := lw_g (lw_at lw_m6 39 rfl) rfl
theorem q1343 : (Jvm.Cond.laysFinal "FoldLister$Region" "FoldLister$Region" "to" "LFoldLister$Bracket;") ∈ lw_all := lw_g (lw_at lw_m6 40 rfl) rfl
theorem q1344 : (Jvm.Cond.soleField "FoldLister$Region" "to") ∈ lw_all := lw_g (lw_at lw_m6 41 rfl) rfl
theorem q1345 : (Jvm.Cond.lays "FoldLister$Region" "FoldLister$Region" "around" "LFoldLister$Region;") ∈ lw_all := lw_g (lw_at lw_m6 42 rfl) rfl
theorem q1346 : (Jvm.Cond.soleField "FoldLister$Region" "around") ∈ lw_all := lw_g (lw_at lw_m6 43 rfl) rfl
theorem q1347 : (Jvm.Cond.lays "FoldLister$Region" "FoldLister$Region" "level" "I") ∈ lw_all := lw_g (lw_at lw_m6 44 rfl) rfl
theorem q1348 : (Jvm.Cond.soleField "FoldLister$Region" "level") ∈ lw_all := lw_g (lw_at lw_m6 45 rfl) rfl
theorem q1349 : (Jvm.Cond.superclass "FoldLister$Region" "java/lang/Object") ∈ lw_all := lw_g (lw_at lw_m6 46 rfl) rfl
theorem q1351 : (Jvm.Cond.instanceMethod ({ cls := "FoldLister$Region", name := "finds", desc := "()V" } : Jvm.MethodName)) ∈ lw_all := lw_g (lw_at lw_m6 48 rfl) rfl
theorem q1352 : (Jvm.Cond.selects "FoldLister$Region" ({ cls := "FoldLister$Region", name := "finds", desc := "()V" } : Jvm.MethodName) ({ cls := "FoldLister$Region", name := "finds", desc := "()V" } : Jvm.MethodName)) ∈ lw_all := lw_g (lw_at lw_m6 49 rfl) rfl
theorem q1353 : (Jvm.Cond.code ({ cls := "FoldLister$Region", name := "finds", desc := "()V" } : Jvm.MethodName) prog_17_method_5_code (2 : Nat) (Option.none : Option Jvm.ClassFile.FieldType)) ∈ lw_all := lw_g (lw_at lw_m6 50 rfl) rfl
theorem q1355 : (Jvm.Cond.instanceMethod ({ cls := "FoldLister$Region", name := "first", desc := "()I" } : Jvm.MethodName)) ∈ lw_all := lw_g (lw_at lw_m6 52 rfl) rfl
theorem q1356 : (Jvm.Cond.selects "FoldLister$Region" ({ cls := "FoldLister$Region", name := "first", desc := "()I" } : Jvm.MethodName) ({ cls := "FoldLister$Region", name := "first", desc := "()I" } : Jvm.MethodName)) ∈ lw_all := lw_g (lw_at lw_m6 53 rfl) rfl
theorem q1357 : (Jvm.Cond.code ({ cls := "FoldLister$Region", name := "first", desc := "()I" } : Jvm.MethodName) prog_17_method_2_code (1 : Nat) (Option.some Jvm.ClassFile.FieldType.int)) ∈ lw_all := lw_g (lw_at lw_m6 54 rfl) rfl
theorem q1359 : (Jvm.Cond.instanceMethod ({ cls := "FoldLister$Region", name := "last", desc := "()I" } : Jvm.MethodName)) ∈ lw_all := lw_g (lw_at lw_m6 56 rfl) rfl
theorem q1360 : (Jvm.Cond.selects "FoldLister$Region" ({ cls := "FoldLister$Region", name := "last", desc := "()I" } : Jvm.MethodName) ({ cls := "FoldLister$Region", name := "last", desc := "()I" } : Jvm.MethodName)) ∈ lw_all := lw_g (lw_at lw_m6 57 rfl) rfl
theorem q1361 : (Jvm.Cond.code ({ cls := "FoldLister$Region", name := "last", desc := "()I" } : Jvm.MethodName) prog_17_method_3_code (1 : Nat) (Option.some Jvm.ClassFile.FieldType.int)) ∈ lw_all := lw_g (lw_at lw_m6 58 rfl) rfl
theorem q1552 : (Jvm.Cond.instanceMethod ({ cls := "FoldLister$Region", name := "hasInside", desc := "(I)Z" } : Jvm.MethodName)) ∈ lw_all := lw_g (lw_at lw_m7 9 rfl) rfl
theorem q1553 : (Jvm.Cond.selects "FoldLister$Region" ({ cls := "FoldLister$Region", name := "hasInside", desc := "(I)Z" } : Jvm.MethodName) ({ cls := "FoldLister$Region", name := "hasInside", desc := "(I)Z" } : Jvm.MethodName)) ∈ lw_all := lw_g (lw_at lw_m7 10 rfl) rfl
theorem q1554 : (Jvm.Cond.code ({ cls := "FoldLister$Region", name := "hasInside", desc := "(I)Z" } : Jvm.MethodName) prog_17_method_4_code (2 : Nat) (Option.some Jvm.ClassFile.FieldType.boolean)) ∈ lw_all := lw_g (lw_at lw_m7 11 rfl) rfl
theorem q1555 : (Jvm.Cond.methodLink "FoldLister$Region" (28 : Nat) ({ cls := "FoldLister$Region", name := "first", desc := "()I" } : Jvm.MethodName)) ∈ lw_all := lw_g (lw_at lw_m7 12 rfl) rfl
theorem q1556 : (Jvm.Cond.methodLink "FoldLister$Region" (32 : Nat) ({ cls := "FoldLister$Region", name := "last", desc := "()I" } : Jvm.MethodName)) ∈ lw_all := lw_g (lw_at lw_m7 13 rfl) rfl
theorem q3630 : (Jvm.Cond.castable "FoldLister$Region" "java/lang/Object") ∈ lw_tbl := lw_at lw_m15 167 rfl
theorem in_X10 : ∀ w ∈ wsX100, w ∈ lw_all := lw_in wsX100 [1339, 1341, 1343, 1345, 1347] (by decide +kernel) (by decide +kernel)
/-! FoldLister$Page$Layout$1 -/
set_option maxRecDepth 100000
def RX11 : String := "FoldLister$Page$Layout$1"
def TX11 : u_T := fun k => match k with
  | 0 => ("FoldLister$Page$Layout$1", "val$this$0", "LFoldLister$Page;", true)
  | _ => ("FoldLister$Page$Layout$1", "this$1", "LFoldLister$Page$Layout;", true)
def tyX11 : Nat → FieldType := fun k => match k with
  | 0 => .object "FoldLister$Page"
  | _ => .object "FoldLister$Page$Layout"
abbrev wsX110 : List Cond := u_ws RX11 TX11 2
theorem nmX11 : ∀ a, a < 2 → ∀ b, b < 2 → a ≠ b → (TX11 a).2.1 ≠ (TX11 b).2.1 := by decide +kernel
theorem tyX11_ok : ∀ k, k < 2 → parseFieldDescriptor (TX11 k).2.2.1 = some (tyX11 k) := by decide +kernel
abbrev cX11_init : ByteArray := prog_15_method_1_code
def yX11_init : MethodName := ⟨RX11, "<init>", "(LFoldLister$Page$Layout;LFoldLister$Page;)V"⟩
def dkwX11_init_0 : List UInt8 := [42, 43, 181, 0, 1, 42, 44, 181, 0, 7, 42, 183, 0, 11, 177]
abbrev dktX11_init_0 : List UInt8 := dkwX11_init_0 ++ []
theorem dksX11_init_0 : cX11_init.data.toList.drop 0 = dktX11_init_0 := by decide +kernel
theorem dX11_init_0 : decode cX11_init 0 = .ok (.aload_n 0, 1) := dk_42 (dk_at dksX11_init_0 0 rfl rfl)
theorem dX11_init_1 : decode cX11_init 1 = .ok (.aload_n 1, 1) := dk_43 (dk_at dksX11_init_0 1 rfl rfl)
theorem dX11_init_2 : decode cX11_init 2 = .ok (.putfield 1, 3) := dk_181 0 1 (dk_at dksX11_init_0 2 rfl rfl)
theorem dX11_init_5 : decode cX11_init 5 = .ok (.aload_n 0, 1) := dk_42 (dk_at dksX11_init_0 5 rfl rfl)
theorem dX11_init_6 : decode cX11_init 6 = .ok (.aload_n 2, 1) := dk_44 (dk_at dksX11_init_0 6 rfl rfl)
theorem dX11_init_7 : decode cX11_init 7 = .ok (.putfield 7, 3) := dk_181 0 7 (dk_at dksX11_init_0 7 rfl rfl)
theorem dX11_init_10 : decode cX11_init 10 = .ok (.aload_n 0, 1) := dk_42 (dk_at dksX11_init_0 10 rfl rfl)
theorem dX11_init_11 : decode cX11_init 11 = .ok (.invokespecial 11, 3) := dk_183 0 11 (dk_at dksX11_init_0 11 rfl rfl)
theorem dX11_init_14 : decode cX11_init 14 = .ok (.return_, 1) := dk_177 (dk_at dksX11_init_0 14 rfl rfl)
abbrev cX11_isClosed : ByteArray := prog_15_method_2_code
def yX11_isClosed : MethodName := ⟨RX11, "isClosed", "(I)Z"⟩
def dkwX11_isClosed_0 : List UInt8 := [42, 180, 0, 1, 180, 0, 17, 180, 0, 22, 27, 185, 0, 28, 2, 0, 192, 0, 34, 180, 0, 36, 172]
abbrev dktX11_isClosed_0 : List UInt8 := dkwX11_isClosed_0 ++ []
theorem dksX11_isClosed_0 : cX11_isClosed.data.toList.drop 0 = dktX11_isClosed_0 := by decide +kernel
theorem dX11_isClosed_0 : decode cX11_isClosed 0 = .ok (.aload_n 0, 1) := dk_42 (dk_at dksX11_isClosed_0 0 rfl rfl)
theorem dX11_isClosed_1 : decode cX11_isClosed 1 = .ok (.getfield 1, 3) := dk_180 0 1 (dk_at dksX11_isClosed_0 1 rfl rfl)
theorem dX11_isClosed_4 : decode cX11_isClosed 4 = .ok (.getfield 17, 3) := dk_180 0 17 (dk_at dksX11_isClosed_0 4 rfl rfl)
theorem dX11_isClosed_7 : decode cX11_isClosed 7 = .ok (.getfield 22, 3) := dk_180 0 22 (dk_at dksX11_isClosed_0 7 rfl rfl)
theorem dX11_isClosed_10 : decode cX11_isClosed 10 = .ok (.iload_n 1, 1) := dk_27 (dk_at dksX11_isClosed_0 10 rfl rfl)
theorem dX11_isClosed_11 : decode cX11_isClosed 11 = .ok (.invokeinterface 28 2, 5) := by decide +kernel
theorem dX11_isClosed_16 : decode cX11_isClosed 16 = .ok (.checkcast 34, 3) := dk_192 0 34 (dk_at dksX11_isClosed_0 16 rfl rfl)
theorem dX11_isClosed_19 : decode cX11_isClosed 19 = .ok (.getfield 36, 3) := dk_180 0 36 (dk_at dksX11_isClosed_0 19 rfl rfl)
theorem dX11_isClosed_22 : decode cX11_isClosed 22 = .ok (.ireturn, 1) := dk_172 (dk_at dksX11_isClosed_0 22 rfl rfl)
theorem q149 : (Jvm.Cond.initialized "FoldLister$Page$Layout$1") ∈ lw_all := lw_g (lw_at lw_m1 46 rfl) rfl
theorem q233 : (Jvm.Cond.fieldLinkNest "FoldLister$Page$Layout$1" (22 : Nat) "FoldLister$Page" "lines" "Ljava/util/List;" "FoldLister") ∈ lw_tbl := lw_at lw_m1 130 rfl
theorem q1001 : (Jvm.Cond.selects "FoldLister$Page$Layout$1" ({ cls := "java/lang/Object", name := "getClass", desc := "()Ljava/lang/Class;" } : Jvm.MethodName) ({ cls := "java/lang/Object", name := "getClass", desc := "()Ljava/lang/Class;" } : Jvm.MethodName)) ∈ lw_all := lw_g (lw_at lw_m4 178 rfl) rfl
theorem q1363 : (Jvm.Cond.instantiable "FoldLister$Page$Layout$1" (2 : Nat)) ∈ lw_all := lw_g (lw_at lw_m6 60 rfl) rfl
theorem q1365 : (Jvm.Cond.instanceMethod ({ cls := "FoldLister$Page$Layout$1", name := "<init>", desc := "(LFoldLister$Page$Layout;LFoldLister$Page;)V" } : Jvm.MethodName)) ∈ lw_all := lw_g (lw_at lw_m6 62 rfl) rfl
theorem q1366 : (Jvm.Cond.code ({ cls := "FoldLister$Page$Layout$1", name := "<init>", desc := "(LFoldLister$Page$Layout;LFoldLister$Page;)V" } : Jvm.MethodName) prog_15_method_1_code (3 : Nat) (Option.none : Option Jvm.ClassFile.FieldType)) ∈ lw_all := lw_g (lw_at lw_m6 63 rfl) rfl
theorem q1367 : (Jvm.Cond.methodLink "FoldLister$Page$Layout$1" (11 : Nat) ({ cls := "java/lang/Object", name := "<init>", desc := "()V" } : Jvm.MethodName)) ∈ lw_all := lw_g (lw_at lw_m6 64 rfl) rfl
theorem q1368 : (Jvm.Cond.fieldLink "FoldLister$Page$Layout$1" (7 : Nat) "FoldLister$Page$Layout$1" "val$this$0" "LFoldLister$Page;") ∈ lw_all := lw_g (lw_at lw_m6 65 rfl) rfl
theorem q1369 : (Jvm.Cond.fieldLink "FoldLister$Page$Layout$1" (1 : Nat) "FoldLister$Page$Layout$1" "this$1" "LFoldLister$Page$Layout;") ∈ lw_all := lw_g (lw_at lw_m6 66 rfl) rfl
theorem q1370 : (Jvm.Cond.laysFinal "FoldLister$Page$Layout$1" "FoldLister$Page$Layout$1" "val$this$0" "LFoldLister$Page;") ∈ lw_all := lw_g (lw_at lw_m6 67 rfl) rfl
theorem q1371 : (Jvm.Cond.soleField "FoldLister$Page$Layout$1" "val$this$0") ∈ lw_all := lw_g (lw_at lw_m6 68 rfl) rfl
theorem q1372 : (Jvm.Cond.laysFinal "FoldLister$Page$Layout$1" "FoldLister$Page$Layout$1" "this$1" "LFoldLister$Page$Layout;") ∈ lw_all := lw_g (lw_at lw_m6 69 rfl) rfl
theorem q1373 : (Jvm.Cond.soleField "FoldLister$Page$Layout$1" "this$1") ∈ lw_all := lw_g (lw_at lw_m6 70 rfl) rfl
theorem q1374 : (Jvm.Cond.superclass "FoldLister$Page$Layout$1" "java/lang/Object") ∈ lw_all := lw_g (lw_at lw_m6 71 rfl) rfl
theorem q1439 : (Jvm.Cond.castable "FoldLister$Page$Layout$1" "FoldLister$Folds") ∈ lw_tbl := lw_at lw_m6 136 rfl
theorem q1440 : (Jvm.Cond.selects "FoldLister$Page$Layout$1" ({ cls := "FoldLister$Folds", name := "isClosed", desc := "(I)Z" } : Jvm.MethodName) ({ cls := "FoldLister$Page$Layout$1", name := "isClosed", desc := "(I)Z" } : Jvm.MethodName)) ∈ lw_all := lw_g (lw_at lw_m6 137 rfl) rfl
theorem q1441 : (Jvm.Cond.unhidden "FoldLister$Page$Layout$1" "isClosed" "(I)Z") ∈ lw_tbl := lw_at lw_m6 138 rfl
theorem q1442 : (Jvm.Cond.instanceMethod ({ cls := "FoldLister$Page$Layout$1", name := "isClosed", desc := "(I)Z" } : Jvm.MethodName)) ∈ lw_all := lw_g (lw_at lw_m6 139 rfl) rfl
theorem q1443 : (Jvm.Cond.publicMethod ({ cls := "FoldLister$Page$Layout$1", name := "isClosed", desc := "(I)Z" } : Jvm.MethodName)) ∈ lw_tbl := lw_at lw_m6 140 rfl
theorem q1444 : (Jvm.Cond.code ({ cls := "FoldLister$Page$Layout$1", name := "isClosed", desc := "(I)Z" } : Jvm.MethodName) prog_15_method_2_code (2 : Nat) (Option.some Jvm.ClassFile.FieldType.boolean)) ∈ lw_all := lw_g (lw_at lw_m6 141 rfl) rfl
theorem q1445 : (Jvm.Cond.interfaceEntry "FoldLister$Page$Layout$1" (28 : Nat)) ∈ lw_tbl := lw_at lw_m6 142 rfl
theorem q1446 : (Jvm.Cond.methodLink "FoldLister$Page$Layout$1" (28 : Nat) ({ cls := "java/util/List", name := "get", desc := "(I)Ljava/lang/Object;" } : Jvm.MethodName)) ∈ lw_all := lw_g (lw_at lw_m6 143 rfl) rfl
theorem q1447 : (Jvm.Cond.classLink "FoldLister$Page$Layout$1" (34 : Nat) "FoldLister$Line") ∈ lw_all := lw_g (lw_at lw_m6 144 rfl) rfl
theorem q1485 : (Jvm.Cond.fieldLink "FoldLister$Page$Layout$1" (17 : Nat) "FoldLister$Page$Layout" "this$0" "LFoldLister$Page;") ∈ lw_all := lw_g (lw_at lw_m6 182 rfl) rfl
theorem q1801 : (Jvm.Cond.fieldLinkNest "FoldLister$Page$Layout$1" (36 : Nat) "FoldLister$Line" "closed" "Z" "FoldLister") ∈ lw_tbl := lw_at lw_m8 18 rfl
theorem q3631 : (Jvm.Cond.castable "FoldLister$Page$Layout$1" "java/lang/Object") ∈ lw_tbl := lw_at lw_m15 168 rfl
theorem in_X11 : ∀ w ∈ wsX110, w ∈ lw_all := lw_in wsX110 [1370, 1372] (by decide +kernel) (by decide +kernel)
/-! FoldLister$1 -/
set_option maxRecDepth 100000
def RX12 : String := "FoldLister$1"
def TX12 : u_T := fun k => match k with
  | _ => ("FoldLister$1", "this$0", "LFoldLister;", true)
def tyX12 : Nat → FieldType := fun k => match k with
  | _ => .object "FoldLister"
abbrev wsX120 : List Cond := u_ws RX12 TX12 1
theorem nmX12 : ∀ a, a < 1 → ∀ b, b < 1 → a ≠ b → (TX12 a).2.1 ≠ (TX12 b).2.1 := by decide +kernel
theorem tyX12_ok : ∀ k, k < 1 → parseFieldDescriptor (TX12 k).2.2.1 = some (tyX12 k) := by decide +kernel
abbrev cX12_init : ByteArray := prog_2_method_1_code
def yX12_init : MethodName := ⟨RX12, "<init>", "(LFoldLister;)V"⟩
def dkwX12_init_0 : List UInt8 := [42, 43, 181, 0, 1, 42, 183, 0, 7, 177]
abbrev dktX12_init_0 : List UInt8 := dkwX12_init_0 ++ []
theorem dksX12_init_0 : cX12_init.data.toList.drop 0 = dktX12_init_0 := by decide +kernel
theorem dX12_init_0 : decode cX12_init 0 = .ok (.aload_n 0, 1) := dk_42 (dk_at dksX12_init_0 0 rfl rfl)
theorem dX12_init_1 : decode cX12_init 1 = .ok (.aload_n 1, 1) := dk_43 (dk_at dksX12_init_0 1 rfl rfl)
theorem dX12_init_2 : decode cX12_init 2 = .ok (.putfield 1, 3) := dk_181 0 1 (dk_at dksX12_init_0 2 rfl rfl)
theorem dX12_init_5 : decode cX12_init 5 = .ok (.aload_n 0, 1) := dk_42 (dk_at dksX12_init_0 5 rfl rfl)
theorem dX12_init_6 : decode cX12_init 6 = .ok (.invokespecial 7, 3) := dk_183 0 7 (dk_at dksX12_init_0 6 rfl rfl)
theorem dX12_init_9 : decode cX12_init 9 = .ok (.return_, 1) := dk_177 (dk_at dksX12_init_0 9 rfl rfl)
abbrev cX12_isOf : ByteArray := prog_2_method_2_code
def yX12_isOf : MethodName := ⟨RX12, "isOf", "(I)Z"⟩
def dkwX12_isOf_1 : List UInt8 := [3, 172]
abbrev dktX12_isOf_1 : List UInt8 := dkwX12_isOf_1 ++ []
def dkwX12_isOf_0 : List UInt8 := [42, 180, 0, 1, 180, 0, 13, 27, 182, 0, 19, 182, 0, 25, 182, 0, 31, 154, 0, 7, 4, 167, 0, 4]
abbrev dktX12_isOf_0 : List UInt8 := dkwX12_isOf_0 ++ dktX12_isOf_1
theorem dksX12_isOf_0 : cX12_isOf.data.toList.drop 0 = dktX12_isOf_0 := by decide +kernel
theorem dksX12_isOf_1 : cX12_isOf.data.toList.drop 24 = dktX12_isOf_1 := dk_seg dksX12_isOf_0 24 rfl rfl
theorem dX12_isOf_0 : decode cX12_isOf 0 = .ok (.aload_n 0, 1) := dk_42 (dk_at dksX12_isOf_0 0 rfl rfl)
theorem dX12_isOf_1 : decode cX12_isOf 1 = .ok (.getfield 1, 3) := dk_180 0 1 (dk_at dksX12_isOf_0 1 rfl rfl)
theorem dX12_isOf_4 : decode cX12_isOf 4 = .ok (.getfield 13, 3) := dk_180 0 13 (dk_at dksX12_isOf_0 4 rfl rfl)
theorem dX12_isOf_7 : decode cX12_isOf 7 = .ok (.iload_n 1, 1) := dk_27 (dk_at dksX12_isOf_0 7 rfl rfl)
theorem dX12_isOf_8 : decode cX12_isOf 8 = .ok (.invokevirtual 19, 3) := dk_182 0 19 (dk_at dksX12_isOf_0 8 rfl rfl)
theorem dX12_isOf_11 : decode cX12_isOf 11 = .ok (.invokevirtual 25, 3) := dk_182 0 25 (dk_at dksX12_isOf_0 11 rfl rfl)
theorem dX12_isOf_14 : decode cX12_isOf 14 = .ok (.invokevirtual 31, 3) := dk_182 0 31 (dk_at dksX12_isOf_0 14 rfl rfl)
theorem dX12_isOf_17 : decode cX12_isOf 17 = .ok (.ifCond .ne 7, 3) := dk_154 0 7 (dk_at dksX12_isOf_0 17 rfl rfl)
theorem dX12_isOf_20 : decode cX12_isOf 20 = .ok (.iconst 1, 1) := dk_4 (dk_at dksX12_isOf_0 20 rfl rfl)
theorem dX12_isOf_21 : decode cX12_isOf 21 = .ok (.goto 4, 3) := dk_167 0 4 (dk_at dksX12_isOf_0 21 rfl rfl)
theorem dX12_isOf_24 : decode cX12_isOf 24 = .ok (.iconst 0, 1) := dk_3 (dk_at dksX12_isOf_1 0 rfl rfl)
theorem dX12_isOf_25 : decode cX12_isOf 25 = .ok (.ireturn, 1) := dk_172 (dk_at dksX12_isOf_1 1 rfl rfl)
theorem q152 : (Jvm.Cond.initialized "FoldLister$1") ∈ lw_all := lw_g (lw_at lw_m1 49 rfl) rfl
theorem q320 : (Jvm.Cond.fieldLinkNest "FoldLister$1" (13 : Nat) "FoldLister" "page" "LFoldLister$Page;" "FoldLister") ∈ lw_tbl := lw_at lw_m1 217 rfl
theorem q990 : (Jvm.Cond.selects "FoldLister$1" ({ cls := "java/lang/Object", name := "getClass", desc := "()Ljava/lang/Class;" } : Jvm.MethodName) ({ cls := "java/lang/Object", name := "getClass", desc := "()Ljava/lang/Class;" } : Jvm.MethodName)) ∈ lw_all := lw_g (lw_at lw_m4 167 rfl) rfl
theorem q2051 : (Jvm.Cond.instantiable "FoldLister$1" (1 : Nat)) ∈ lw_all := lw_g (lw_at lw_m9 28 rfl) rfl
theorem q2053 : (Jvm.Cond.instanceMethod ({ cls := "FoldLister$1", name := "<init>", desc := "(LFoldLister;)V" } : Jvm.MethodName)) ∈ lw_all := lw_g (lw_at lw_m9 30 rfl) rfl
theorem q2054 : (Jvm.Cond.code ({ cls := "FoldLister$1", name := "<init>", desc := "(LFoldLister;)V" } : Jvm.MethodName) prog_2_method_1_code (2 : Nat) (Option.none : Option Jvm.ClassFile.FieldType)) ∈ lw_all := lw_g (lw_at lw_m9 31 rfl) rfl
theorem q2055 : (Jvm.Cond.methodLink "FoldLister$1" (7 : Nat) ({ cls := "java/lang/Object", name := "<init>", desc := "()V" } : Jvm.MethodName)) ∈ lw_all := lw_g (lw_at lw_m9 32 rfl) rfl
theorem q2056 : (Jvm.Cond.fieldLink "FoldLister$1" (1 : Nat) "FoldLister$1" "this$0" "LFoldLister;") ∈ lw_all := lw_g (lw_at lw_m9 33 rfl) rfl
theorem q2057 : (Jvm.Cond.laysFinal "FoldLister$1" "FoldLister$1" "this$0" "LFoldLister;") ∈ lw_all := lw_g (lw_at lw_m9 34 rfl) rfl
theorem q2058 : (Jvm.Cond.soleField "FoldLister$1" "this$0") ∈ lw_all := lw_g (lw_at lw_m9 35 rfl) rfl
theorem q2059 : (Jvm.Cond.superclass "FoldLister$1" "java/lang/Object") ∈ lw_all := lw_g (lw_at lw_m9 36 rfl) rfl
theorem q2068 : (Jvm.Cond.castable "FoldLister$1" "FoldLister$Feature") ∈ lw_tbl := lw_at lw_m9 45 rfl
theorem q2069 : (Jvm.Cond.selects "FoldLister$1" ({ cls := "FoldLister$Feature", name := "isOf", desc := "(I)Z" } : Jvm.MethodName) ({ cls := "FoldLister$1", name := "isOf", desc := "(I)Z" } : Jvm.MethodName)) ∈ lw_all := lw_g (lw_at lw_m9 46 rfl) rfl
theorem q2070 : (Jvm.Cond.unhidden "FoldLister$1" "isOf" "(I)Z") ∈ lw_tbl := lw_at lw_m9 47 rfl
theorem q2071 : (Jvm.Cond.instanceMethod ({ cls := "FoldLister$1", name := "isOf", desc := "(I)Z" } : Jvm.MethodName)) ∈ lw_all := lw_g (lw_at lw_m9 48 rfl) rfl
theorem q2072 : (Jvm.Cond.publicMethod ({ cls := "FoldLister$1", name := "isOf", desc := "(I)Z" } : Jvm.MethodName)) ∈ lw_tbl := lw_at lw_m9 49 rfl
theorem q2073 : (Jvm.Cond.code ({ cls := "FoldLister$1", name := "isOf", desc := "(I)Z" } : Jvm.MethodName) prog_2_method_2_code (2 : Nat) (Option.some Jvm.ClassFile.FieldType.boolean)) ∈ lw_all := lw_g (lw_at lw_m9 50 rfl) rfl
theorem q2074 : (Jvm.Cond.methodLink "FoldLister$1" (19 : Nat) ({ cls := "FoldLister$Page", name := "line", desc := "(I)LFoldLister$Line;" } : Jvm.MethodName)) ∈ lw_all := lw_g (lw_at lw_m9 51 rfl) rfl
theorem q2075 : (Jvm.Cond.methodLink "FoldLister$1" (25 : Nat) ({ cls := "FoldLister$Line", name := "label", desc := "()Ljava/lang/String;" } : Jvm.MethodName)) ∈ lw_all := lw_g (lw_at lw_m9 52 rfl) rfl
theorem q2079 : (Jvm.Cond.methodLink "FoldLister$1" (31 : Nat) ({ cls := "java/lang/String", name := "isEmpty", desc := "()Z" } : Jvm.MethodName)) ∈ lw_all := lw_g (lw_at lw_m9 56 rfl) rfl
theorem q3633 : (Jvm.Cond.castable "FoldLister$1" "java/lang/Object") ∈ lw_tbl := lw_at lw_m15 170 rfl
theorem in_X12 : ∀ w ∈ wsX120, w ∈ lw_all := lw_in wsX120 [2057] (by decide +kernel) (by decide +kernel)
/-! FoldLister$2 -/
set_option maxRecDepth 100000
def RX13 : String := "FoldLister$2"
def TX13 : u_T := fun k => match k with
  | _ => ("FoldLister$2", "this$0", "LFoldLister;", true)
def tyX13 : Nat → FieldType := fun k => match k with
  | _ => .object "FoldLister"
abbrev wsX130 : List Cond := u_ws RX13 TX13 1
theorem nmX13 : ∀ a, a < 1 → ∀ b, b < 1 → a ≠ b → (TX13 a).2.1 ≠ (TX13 b).2.1 := by decide +kernel
theorem tyX13_ok : ∀ k, k < 1 → parseFieldDescriptor (TX13 k).2.2.1 = some (tyX13 k) := by decide +kernel
abbrev cX13_isOf : ByteArray := prog_3_method_2_code
def yX13_isOf : MethodName := ⟨RX13, "isOf", "(I)Z"⟩
def dkwX13_isOf_1 : List UInt8 := [3, 172]
abbrev dktX13_isOf_1 : List UInt8 := dkwX13_isOf_1 ++ []
def dkwX13_isOf_0 : List UInt8 := [42, 180, 0, 1, 180, 0, 13, 27, 182, 0, 19, 182, 0, 25, 182, 0, 31, 154, 0, 7, 4, 167, 0, 4]
abbrev dktX13_isOf_0 : List UInt8 := dkwX13_isOf_0 ++ dktX13_isOf_1
theorem dksX13_isOf_0 : cX13_isOf.data.toList.drop 0 = dktX13_isOf_0 := by decide +kernel
theorem dksX13_isOf_1 : cX13_isOf.data.toList.drop 24 = dktX13_isOf_1 := dk_seg dksX13_isOf_0 24 rfl rfl
theorem dX13_isOf_0 : decode cX13_isOf 0 = .ok (.aload_n 0, 1) := dk_42 (dk_at dksX13_isOf_0 0 rfl rfl)
theorem dX13_isOf_1 : decode cX13_isOf 1 = .ok (.getfield 1, 3) := dk_180 0 1 (dk_at dksX13_isOf_0 1 rfl rfl)
theorem dX13_isOf_4 : decode cX13_isOf 4 = .ok (.getfield 13, 3) := dk_180 0 13 (dk_at dksX13_isOf_0 4 rfl rfl)
theorem dX13_isOf_7 : decode cX13_isOf 7 = .ok (.iload_n 1, 1) := dk_27 (dk_at dksX13_isOf_0 7 rfl rfl)
theorem dX13_isOf_8 : decode cX13_isOf 8 = .ok (.invokevirtual 19, 3) := dk_182 0 19 (dk_at dksX13_isOf_0 8 rfl rfl)
theorem dX13_isOf_11 : decode cX13_isOf 11 = .ok (.invokevirtual 25, 3) := dk_182 0 25 (dk_at dksX13_isOf_0 11 rfl rfl)
theorem dX13_isOf_14 : decode cX13_isOf 14 = .ok (.invokevirtual 31, 3) := dk_182 0 31 (dk_at dksX13_isOf_0 14 rfl rfl)
theorem dX13_isOf_17 : decode cX13_isOf 17 = .ok (.ifCond .ne 7, 3) := dk_154 0 7 (dk_at dksX13_isOf_0 17 rfl rfl)
theorem dX13_isOf_20 : decode cX13_isOf 20 = .ok (.iconst 1, 1) := dk_4 (dk_at dksX13_isOf_0 20 rfl rfl)
theorem dX13_isOf_21 : decode cX13_isOf 21 = .ok (.goto 4, 3) := dk_167 0 4 (dk_at dksX13_isOf_0 21 rfl rfl)
theorem dX13_isOf_24 : decode cX13_isOf 24 = .ok (.iconst 0, 1) := dk_3 (dk_at dksX13_isOf_1 0 rfl rfl)
theorem dX13_isOf_25 : decode cX13_isOf 25 = .ok (.ireturn, 1) := dk_172 (dk_at dksX13_isOf_1 1 rfl rfl)
abbrev cX13_init : ByteArray := prog_3_method_1_code
def yX13_init : MethodName := ⟨RX13, "<init>", "(LFoldLister;)V"⟩
def dkwX13_init_0 : List UInt8 := [42, 43, 181, 0, 1, 42, 183, 0, 7, 177]
abbrev dktX13_init_0 : List UInt8 := dkwX13_init_0 ++ []
theorem dksX13_init_0 : cX13_init.data.toList.drop 0 = dktX13_init_0 := by decide +kernel
theorem dX13_init_0 : decode cX13_init 0 = .ok (.aload_n 0, 1) := dk_42 (dk_at dksX13_init_0 0 rfl rfl)
theorem dX13_init_1 : decode cX13_init 1 = .ok (.aload_n 1, 1) := dk_43 (dk_at dksX13_init_0 1 rfl rfl)
theorem dX13_init_2 : decode cX13_init 2 = .ok (.putfield 1, 3) := dk_181 0 1 (dk_at dksX13_init_0 2 rfl rfl)
theorem dX13_init_5 : decode cX13_init 5 = .ok (.aload_n 0, 1) := dk_42 (dk_at dksX13_init_0 5 rfl rfl)
theorem dX13_init_6 : decode cX13_init 6 = .ok (.invokespecial 7, 3) := dk_183 0 7 (dk_at dksX13_init_0 6 rfl rfl)
theorem dX13_init_9 : decode cX13_init 9 = .ok (.return_, 1) := dk_177 (dk_at dksX13_init_0 9 rfl rfl)
theorem q153 : (Jvm.Cond.initialized "FoldLister$2") ∈ lw_all := lw_g (lw_at lw_m1 50 rfl) rfl
theorem q321 : (Jvm.Cond.fieldLinkNest "FoldLister$2" (13 : Nat) "FoldLister" "page" "LFoldLister$Page;" "FoldLister") ∈ lw_tbl := lw_at lw_m1 218 rfl
theorem q991 : (Jvm.Cond.selects "FoldLister$2" ({ cls := "java/lang/Object", name := "getClass", desc := "()Ljava/lang/Class;" } : Jvm.MethodName) ({ cls := "java/lang/Object", name := "getClass", desc := "()Ljava/lang/Class;" } : Jvm.MethodName)) ∈ lw_all := lw_g (lw_at lw_m4 168 rfl) rfl
theorem q2083 : (Jvm.Cond.castable "FoldLister$2" "FoldLister$Feature") ∈ lw_tbl := lw_at lw_m9 60 rfl
theorem q2084 : (Jvm.Cond.selects "FoldLister$2" ({ cls := "FoldLister$Feature", name := "isOf", desc := "(I)Z" } : Jvm.MethodName) ({ cls := "FoldLister$2", name := "isOf", desc := "(I)Z" } : Jvm.MethodName)) ∈ lw_all := lw_g (lw_at lw_m9 61 rfl) rfl
theorem q2085 : (Jvm.Cond.unhidden "FoldLister$2" "isOf" "(I)Z") ∈ lw_tbl := lw_at lw_m9 62 rfl
theorem q2086 : (Jvm.Cond.instanceMethod ({ cls := "FoldLister$2", name := "isOf", desc := "(I)Z" } : Jvm.MethodName)) ∈ lw_all := lw_g (lw_at lw_m9 63 rfl) rfl
theorem q2087 : (Jvm.Cond.publicMethod ({ cls := "FoldLister$2", name := "isOf", desc := "(I)Z" } : Jvm.MethodName)) ∈ lw_tbl := lw_at lw_m9 64 rfl
theorem q2088 : (Jvm.Cond.code ({ cls := "FoldLister$2", name := "isOf", desc := "(I)Z" } : Jvm.MethodName) prog_3_method_2_code (2 : Nat) (Option.some Jvm.ClassFile.FieldType.boolean)) ∈ lw_all := lw_g (lw_at lw_m9 65 rfl) rfl
theorem q2089 : (Jvm.Cond.methodLink "FoldLister$2" (19 : Nat) ({ cls := "FoldLister$Page", name := "line", desc := "(I)LFoldLister$Line;" } : Jvm.MethodName)) ∈ lw_all := lw_g (lw_at lw_m9 66 rfl) rfl
theorem q2090 : (Jvm.Cond.methodLink "FoldLister$2" (25 : Nat) ({ cls := "FoldLister$Line", name := "reference", desc := "()Ljava/lang/String;" } : Jvm.MethodName)) ∈ lw_all := lw_g (lw_at lw_m9 67 rfl) rfl
theorem q2094 : (Jvm.Cond.methodLink "FoldLister$2" (31 : Nat) ({ cls := "java/lang/String", name := "isEmpty", desc := "()Z" } : Jvm.MethodName)) ∈ lw_all := lw_g (lw_at lw_m9 71 rfl) rfl
theorem q2125 : (Jvm.Cond.instantiable "FoldLister$2" (1 : Nat)) ∈ lw_all := lw_g (lw_at lw_m9 102 rfl) rfl
theorem q2127 : (Jvm.Cond.instanceMethod ({ cls := "FoldLister$2", name := "<init>", desc := "(LFoldLister;)V" } : Jvm.MethodName)) ∈ lw_all := lw_g (lw_at lw_m9 104 rfl) rfl
theorem q2128 : (Jvm.Cond.code ({ cls := "FoldLister$2", name := "<init>", desc := "(LFoldLister;)V" } : Jvm.MethodName) prog_3_method_1_code (2 : Nat) (Option.none : Option Jvm.ClassFile.FieldType)) ∈ lw_all := lw_g (lw_at lw_m9 105 rfl) rfl
theorem q2129 : (Jvm.Cond.methodLink "FoldLister$2" (7 : Nat) ({ cls := "java/lang/Object", name := "<init>", desc := "()V" } : Jvm.MethodName)) ∈ lw_all := lw_g (lw_at lw_m9 106 rfl) rfl
theorem q2130 : (Jvm.Cond.fieldLink "FoldLister$2" (1 : Nat) "FoldLister$2" "this$0" "LFoldLister;") ∈ lw_all := lw_g (lw_at lw_m9 107 rfl) rfl
theorem q2131 : (Jvm.Cond.laysFinal "FoldLister$2" "FoldLister$2" "this$0" "LFoldLister;") ∈ lw_all := lw_g (lw_at lw_m9 108 rfl) rfl
theorem q2132 : (Jvm.Cond.soleField "FoldLister$2" "this$0") ∈ lw_all := lw_g (lw_at lw_m9 109 rfl) rfl
theorem q2133 : (Jvm.Cond.superclass "FoldLister$2" "java/lang/Object") ∈ lw_all := lw_g (lw_at lw_m9 110 rfl) rfl
theorem q3634 : (Jvm.Cond.castable "FoldLister$2" "java/lang/Object") ∈ lw_tbl := lw_at lw_m15 171 rfl
theorem in_X13 : ∀ w ∈ wsX130, w ∈ lw_all := lw_in wsX130 [2131] (by decide +kernel) (by decide +kernel)
/-! FoldLister$Round -/
set_option maxRecDepth 100000
def RX14 : String := "FoldLister$Round"
def TX14 : u_T := fun k => match k with
  | 0 => ("FoldLister$Round", "from", "I", true)
  | _ => ("FoldLister$Round", "this$0", "LFoldLister;", true)
def tyX14 : Nat → FieldType := fun k => match k with
  | 0 => .int
  | _ => .object "FoldLister"
abbrev wsX140 : List Cond := u_ws RX14 TX14 2
theorem nmX14 : ∀ a, a < 2 → ∀ b, b < 2 → a ≠ b → (TX14 a).2.1 ≠ (TX14 b).2.1 := by decide +kernel
theorem tyX14_ok : ∀ k, k < 2 → parseFieldDescriptor (TX14 k).2.2.1 = some (tyX14 k) := by decide +kernel
abbrev cX14_init : ByteArray := prog_18_method_1_code
def yX14_init : MethodName := ⟨RX14, "<init>", "(LFoldLister;I)V"⟩
def dkwX14_init_0 : List UInt8 := [42, 43, 181, 0, 1, 42, 183, 0, 7, 42, 28, 181, 0, 13, 177]
abbrev dktX14_init_0 : List UInt8 := dkwX14_init_0 ++ []
theorem dksX14_init_0 : cX14_init.data.toList.drop 0 = dktX14_init_0 := by decide +kernel
theorem dX14_init_0 : decode cX14_init 0 = .ok (.aload_n 0, 1) := dk_42 (dk_at dksX14_init_0 0 rfl rfl)
theorem dX14_init_1 : decode cX14_init 1 = .ok (.aload_n 1, 1) := dk_43 (dk_at dksX14_init_0 1 rfl rfl)
theorem dX14_init_2 : decode cX14_init 2 = .ok (.putfield 1, 3) := dk_181 0 1 (dk_at dksX14_init_0 2 rfl rfl)
theorem dX14_init_5 : decode cX14_init 5 = .ok (.aload_n 0, 1) := dk_42 (dk_at dksX14_init_0 5 rfl rfl)
theorem dX14_init_6 : decode cX14_init 6 = .ok (.invokespecial 7, 3) := dk_183 0 7 (dk_at dksX14_init_0 6 rfl rfl)
theorem dX14_init_9 : decode cX14_init 9 = .ok (.aload_n 0, 1) := dk_42 (dk_at dksX14_init_0 9 rfl rfl)
theorem dX14_init_10 : decode cX14_init 10 = .ok (.iload_n 2, 1) := dk_28 (dk_at dksX14_init_0 10 rfl rfl)
theorem dX14_init_11 : decode cX14_init 11 = .ok (.putfield 13, 3) := dk_181 0 13 (dk_at dksX14_init_0 11 rfl rfl)
theorem dX14_init_14 : decode cX14_init 14 = .ok (.return_, 1) := dk_177 (dk_at dksX14_init_0 14 rfl rfl)
abbrev cX14_iterator : ByteArray := prog_18_method_2_code
def yX14_iterator : MethodName := ⟨RX14, "iterator", "()Ljava/util/Iterator;"⟩
def dkwX14_iterator_0 : List UInt8 := [187, 0, 17, 89, 42, 183, 0, 19, 176]
abbrev dktX14_iterator_0 : List UInt8 := dkwX14_iterator_0 ++ []
theorem dksX14_iterator_0 : cX14_iterator.data.toList.drop 0 = dktX14_iterator_0 := by decide +kernel
theorem dX14_iterator_0 : decode cX14_iterator 0 = .ok (.new 17, 3) := dk_187 0 17 (dk_at dksX14_iterator_0 0 rfl rfl)
theorem dX14_iterator_3 : decode cX14_iterator 3 = .ok (.dup, 1) := dk_89 (dk_at dksX14_iterator_0 3 rfl rfl)
theorem dX14_iterator_4 : decode cX14_iterator 4 = .ok (.aload_n 0, 1) := dk_42 (dk_at dksX14_iterator_0 4 rfl rfl)
theorem dX14_iterator_5 : decode cX14_iterator 5 = .ok (.invokespecial 19, 3) := dk_183 0 19 (dk_at dksX14_iterator_0 5 rfl rfl)
theorem dX14_iterator_8 : decode cX14_iterator 8 = .ok (.areturn, 1) := dk_176 (dk_at dksX14_iterator_0 8 rfl rfl)
theorem q154 : (Jvm.Cond.initialized "FoldLister$Round") ∈ lw_all := lw_g (lw_at lw_m1 51 rfl) rfl
theorem q1004 : (Jvm.Cond.selects "FoldLister$Round" ({ cls := "java/lang/Object", name := "getClass", desc := "()Ljava/lang/Class;" } : Jvm.MethodName) ({ cls := "java/lang/Object", name := "getClass", desc := "()Ljava/lang/Class;" } : Jvm.MethodName)) ∈ lw_all := lw_g (lw_at lw_m4 181 rfl) rfl
theorem q2222 : (Jvm.Cond.instantiable "FoldLister$Round" (2 : Nat)) ∈ lw_all := lw_g (lw_at lw_m9 199 rfl) rfl
theorem q2224 : (Jvm.Cond.instanceMethod ({ cls := "FoldLister$Round", name := "<init>", desc := "(LFoldLister;I)V" } : Jvm.MethodName)) ∈ lw_all := lw_g (lw_at lw_m9 201 rfl) rfl
theorem q2225 : (Jvm.Cond.code ({ cls := "FoldLister$Round", name := "<init>", desc := "(LFoldLister;I)V" } : Jvm.MethodName) prog_18_method_1_code (3 : Nat) (Option.none : Option Jvm.ClassFile.FieldType)) ∈ lw_all := lw_g (lw_at lw_m9 202 rfl) rfl
theorem q2226 : (Jvm.Cond.methodLink "FoldLister$Round" (7 : Nat) ({ cls := "java/lang/Object", name := "<init>", desc := "()V" } : Jvm.MethodName)) ∈ lw_all := lw_g (lw_at lw_m9 203 rfl) rfl
theorem q2227 : (Jvm.Cond.fieldLink "FoldLister$Round" (13 : Nat) "FoldLister$Round" "from" "I") ∈ lw_all := lw_g (lw_at lw_m9 204 rfl) rfl
theorem q2229 : (Jvm.Cond.fieldLink "FoldLister$Round" (1 : Nat) "FoldLister$Round" "this$0" "LFoldLister;") ∈ lw_all := lw_g (lw_at lw_m9 206 rfl) rfl
theorem q2231 : (Jvm.Cond.laysFinal "FoldLister$Round" "FoldLister$Round" "from" "I") ∈ lw_all := lw_g (lw_at lw_m9 208 rfl) rfl
theorem q2232 : (Jvm.Cond.soleField "FoldLister$Round" "from") ∈ lw_all := lw_g (lw_at lw_m9 209 rfl) rfl
theorem q2233 : (Jvm.Cond.laysFinal "FoldLister$Round" "FoldLister$Round" "this$0" "LFoldLister;") ∈ lw_all := lw_g (lw_at lw_m9 210 rfl) rfl
theorem q2234 : (Jvm.Cond.soleField "FoldLister$Round" "this$0") ∈ lw_all := lw_g (lw_at lw_m9 211 rfl) rfl
theorem q2235 : (Jvm.Cond.superclass "FoldLister$Round" "java/lang/Object") ∈ lw_all := lw_g (lw_at lw_m9 212 rfl) rfl
theorem q2237 : (Jvm.Cond.instanceMethod ({ cls := "FoldLister$Round", name := "iterator", desc := "()Ljava/util/Iterator;" } : Jvm.MethodName)) ∈ lw_all := lw_g (lw_at lw_m9 214 rfl) rfl
theorem q2238 : (Jvm.Cond.selects "FoldLister$Round" ({ cls := "FoldLister$Round", name := "iterator", desc := "()Ljava/util/Iterator;" } : Jvm.MethodName) ({ cls := "FoldLister$Round", name := "iterator", desc := "()Ljava/util/Iterator;" } : Jvm.MethodName)) ∈ lw_all := lw_g (lw_at lw_m9 215 rfl) rfl
theorem q2239 : (Jvm.Cond.code ({ cls := "FoldLister$Round", name := "iterator", desc := "()Ljava/util/Iterator;" } : Jvm.MethodName) prog_18_method_2_code (1 : Nat) (Option.some (Jvm.ClassFile.FieldType.object "java/util/Iterator"))) ∈ lw_all := lw_g (lw_at lw_m9 216 rfl) rfl
theorem q2240 : (Jvm.Cond.classLink "FoldLister$Round" (17 : Nat) "FoldLister$Round$1Going") ∈ lw_all := lw_g (lw_at lw_m9 217 rfl) rfl
theorem q2242 : (Jvm.Cond.methodLink "FoldLister$Round" (19 : Nat) ({ cls := "FoldLister$Round$1Going", name := "<init>", desc := "(LFoldLister$Round;)V" } : Jvm.MethodName)) ∈ lw_all := lw_g (lw_at lw_m9 219 rfl) rfl
theorem q3635 : (Jvm.Cond.castable "FoldLister$Round" "java/lang/Object") ∈ lw_tbl := lw_at lw_m15 172 rfl
theorem in_X14 : ∀ w ∈ wsX140, w ∈ lw_all := lw_in wsX140 [2231, 2233] (by decide +kernel) (by decide +kernel)
/-! FoldLister$Round$1Going -/
set_option maxRecDepth 100000
def RX15 : String := "FoldLister$Round$1Going"
def TX15 : u_T := fun k => match k with
  | 0 => ("FoldLister$Round$1Going", "gone", "I", false)
  | _ => ("FoldLister$Round$1Going", "this$1", "LFoldLister$Round;", true)
def tyX15 : Nat → FieldType := fun k => match k with
  | 0 => .int
  | _ => .object "FoldLister$Round"
abbrev wsX150 : List Cond := u_ws RX15 TX15 2
theorem nmX15 : ∀ a, a < 2 → ∀ b, b < 2 → a ≠ b → (TX15 a).2.1 ≠ (TX15 b).2.1 := by decide +kernel
theorem tyX15_ok : ∀ k, k < 2 → parseFieldDescriptor (TX15 k).2.2.1 = some (tyX15 k) := by decide +kernel
abbrev cX15_hasNext : ByteArray := prog_19_method_2_code
def yX15_hasNext : MethodName := ⟨RX15, "hasNext", "()Z"⟩
def dkwX15_hasNext_1 : List UInt8 := [3, 172]
abbrev dktX15_hasNext_1 : List UInt8 := dkwX15_hasNext_1 ++ []
def dkwX15_hasNext_0 : List UInt8 := [42, 180, 0, 13, 42, 180, 0, 1, 180, 0, 17, 180, 0, 23, 182, 0, 29, 162, 0, 7, 4, 167, 0, 4]
abbrev dktX15_hasNext_0 : List UInt8 := dkwX15_hasNext_0 ++ dktX15_hasNext_1
theorem dksX15_hasNext_0 : cX15_hasNext.data.toList.drop 0 = dktX15_hasNext_0 := by decide +kernel
theorem dksX15_hasNext_1 : cX15_hasNext.data.toList.drop 24 = dktX15_hasNext_1 := dk_seg dksX15_hasNext_0 24 rfl rfl
theorem dX15_hasNext_0 : decode cX15_hasNext 0 = .ok (.aload_n 0, 1) := dk_42 (dk_at dksX15_hasNext_0 0 rfl rfl)
theorem dX15_hasNext_1 : decode cX15_hasNext 1 = .ok (.getfield 13, 3) := dk_180 0 13 (dk_at dksX15_hasNext_0 1 rfl rfl)
theorem dX15_hasNext_4 : decode cX15_hasNext 4 = .ok (.aload_n 0, 1) := dk_42 (dk_at dksX15_hasNext_0 4 rfl rfl)
theorem dX15_hasNext_5 : decode cX15_hasNext 5 = .ok (.getfield 1, 3) := dk_180 0 1 (dk_at dksX15_hasNext_0 5 rfl rfl)
theorem dX15_hasNext_8 : decode cX15_hasNext 8 = .ok (.getfield 17, 3) := dk_180 0 17 (dk_at dksX15_hasNext_0 8 rfl rfl)
theorem dX15_hasNext_11 : decode cX15_hasNext 11 = .ok (.getfield 23, 3) := dk_180 0 23 (dk_at dksX15_hasNext_0 11 rfl rfl)
theorem dX15_hasNext_14 : decode cX15_hasNext 14 = .ok (.invokevirtual 29, 3) := dk_182 0 29 (dk_at dksX15_hasNext_0 14 rfl rfl)
theorem dX15_hasNext_17 : decode cX15_hasNext 17 = .ok (.if_icmp .ge 7, 3) := dk_162 0 7 (dk_at dksX15_hasNext_0 17 rfl rfl)
theorem dX15_hasNext_20 : decode cX15_hasNext 20 = .ok (.iconst 1, 1) := dk_4 (dk_at dksX15_hasNext_0 20 rfl rfl)
theorem dX15_hasNext_21 : decode cX15_hasNext 21 = .ok (.goto 4, 3) := dk_167 0 4 (dk_at dksX15_hasNext_0 21 rfl rfl)
theorem dX15_hasNext_24 : decode cX15_hasNext 24 = .ok (.iconst 0, 1) := dk_3 (dk_at dksX15_hasNext_1 0 rfl rfl)
theorem dX15_hasNext_25 : decode cX15_hasNext 25 = .ok (.ireturn, 1) := dk_172 (dk_at dksX15_hasNext_1 1 rfl rfl)
abbrev cX15_next : ByteArray := prog_19_method_4_code
def yX15_next : MethodName := ⟨RX15, "next", "()Ljava/lang/Object;"⟩
theorem dX15_next_0 : decode cX15_next 0 = .ok (.aload_n 0, 1) := by decide +kernel
theorem dX15_next_1 : decode cX15_next 1 = .ok (.invokevirtual 44, 3) := by decide +kernel
theorem dX15_next_4 : decode cX15_next 4 = .ok (.areturn, 1) := by decide +kernel
abbrev cX15_next_2 : ByteArray := prog_19_method_3_code
def yX15_next_2 : MethodName := ⟨RX15, "next", "()Ljava/lang/Integer;"⟩
def dkwX15_next_2_1 : List UInt8 := [42, 180, 0, 1, 180, 0, 17, 180, 0, 23, 182, 0, 29, 112, 184, 0, 38, 176]
abbrev dktX15_next_2_1 : List UInt8 := dkwX15_next_2_1 ++ []
def dkwX15_next_2_0 : List UInt8 := [42, 89, 180, 0, 13, 4, 96, 181, 0, 13, 42, 180, 0, 1, 180, 0, 35, 42, 180, 0, 13, 96, 4, 100]
abbrev dktX15_next_2_0 : List UInt8 := dkwX15_next_2_0 ++ dktX15_next_2_1
theorem dksX15_next_2_0 : cX15_next_2.data.toList.drop 0 = dktX15_next_2_0 := by decide +kernel
theorem dksX15_next_2_1 : cX15_next_2.data.toList.drop 24 = dktX15_next_2_1 := dk_seg dksX15_next_2_0 24 rfl rfl
theorem dX15_next_2_0 : decode cX15_next_2 0 = .ok (.aload_n 0, 1) := dk_42 (dk_at dksX15_next_2_0 0 rfl rfl)
theorem dX15_next_2_1 : decode cX15_next_2 1 = .ok (.dup, 1) := dk_89 (dk_at dksX15_next_2_0 1 rfl rfl)
theorem dX15_next_2_2 : decode cX15_next_2 2 = .ok (.getfield 13, 3) := dk_180 0 13 (dk_at dksX15_next_2_0 2 rfl rfl)
theorem dX15_next_2_5 : decode cX15_next_2 5 = .ok (.iconst 1, 1) := dk_4 (dk_at dksX15_next_2_0 5 rfl rfl)
theorem dX15_next_2_6 : decode cX15_next_2 6 = .ok (.iadd, 1) := dk_96 (dk_at dksX15_next_2_0 6 rfl rfl)
theorem dX15_next_2_7 : decode cX15_next_2 7 = .ok (.putfield 13, 3) := dk_181 0 13 (dk_at dksX15_next_2_0 7 rfl rfl)
theorem dX15_next_2_10 : decode cX15_next_2 10 = .ok (.aload_n 0, 1) := dk_42 (dk_at dksX15_next_2_0 10 rfl rfl)
theorem dX15_next_2_11 : decode cX15_next_2 11 = .ok (.getfield 1, 3) := dk_180 0 1 (dk_at dksX15_next_2_0 11 rfl rfl)
theorem dX15_next_2_14 : decode cX15_next_2 14 = .ok (.getfield 35, 3) := dk_180 0 35 (dk_at dksX15_next_2_0 14 rfl rfl)
theorem dX15_next_2_17 : decode cX15_next_2 17 = .ok (.aload_n 0, 1) := dk_42 (dk_at dksX15_next_2_0 17 rfl rfl)
theorem dX15_next_2_18 : decode cX15_next_2 18 = .ok (.getfield 13, 3) := dk_180 0 13 (dk_at dksX15_next_2_0 18 rfl rfl)
theorem dX15_next_2_21 : decode cX15_next_2 21 = .ok (.iadd, 1) := dk_96 (dk_at dksX15_next_2_0 21 rfl rfl)
theorem dX15_next_2_22 : decode cX15_next_2 22 = .ok (.iconst 1, 1) := dk_4 (dk_at dksX15_next_2_0 22 rfl rfl)
theorem dX15_next_2_23 : decode cX15_next_2 23 = .ok (.isub, 1) := dk_100 (dk_at dksX15_next_2_0 23 rfl rfl)
theorem dX15_next_2_24 : decode cX15_next_2 24 = .ok (.aload_n 0, 1) := dk_42 (dk_at dksX15_next_2_1 0 rfl rfl)
theorem dX15_next_2_25 : decode cX15_next_2 25 = .ok (.getfield 1, 3) := dk_180 0 1 (dk_at dksX15_next_2_1 1 rfl rfl)
theorem dX15_next_2_28 : decode cX15_next_2 28 = .ok (.getfield 17, 3) := dk_180 0 17 (dk_at dksX15_next_2_1 4 rfl rfl)
theorem dX15_next_2_31 : decode cX15_next_2 31 = .ok (.getfield 23, 3) := dk_180 0 23 (dk_at dksX15_next_2_1 7 rfl rfl)
theorem dX15_next_2_34 : decode cX15_next_2 34 = .ok (.invokevirtual 29, 3) := dk_182 0 29 (dk_at dksX15_next_2_1 10 rfl rfl)
theorem dX15_next_2_37 : decode cX15_next_2 37 = .ok (.irem, 1) := dk_112 (dk_at dksX15_next_2_1 13 rfl rfl)
theorem dX15_next_2_38 : decode cX15_next_2 38 = .ok (.invokestatic 38, 3) := dk_184 0 38 (dk_at dksX15_next_2_1 14 rfl rfl)
theorem dX15_next_2_41 : decode cX15_next_2 41 = .ok (.areturn, 1) := dk_176 (dk_at dksX15_next_2_1 17 rfl rfl)
abbrev cX15_init : ByteArray := prog_19_method_1_code
def yX15_init : MethodName := ⟨RX15, "<init>", "(LFoldLister$Round;)V"⟩
def dkwX15_init_0 : List UInt8 := [42, 43, 181, 0, 1, 42, 183, 0, 7, 177]
abbrev dktX15_init_0 : List UInt8 := dkwX15_init_0 ++ []
theorem dksX15_init_0 : cX15_init.data.toList.drop 0 = dktX15_init_0 := by decide +kernel
theorem dX15_init_0 : decode cX15_init 0 = .ok (.aload_n 0, 1) := dk_42 (dk_at dksX15_init_0 0 rfl rfl)
theorem dX15_init_1 : decode cX15_init 1 = .ok (.aload_n 1, 1) := dk_43 (dk_at dksX15_init_0 1 rfl rfl)
theorem dX15_init_2 : decode cX15_init 2 = .ok (.putfield 1, 3) := dk_181 0 1 (dk_at dksX15_init_0 2 rfl rfl)
theorem dX15_init_5 : decode cX15_init 5 = .ok (.aload_n 0, 1) := dk_42 (dk_at dksX15_init_0 5 rfl rfl)
theorem dX15_init_6 : decode cX15_init 6 = .ok (.invokespecial 7, 3) := dk_183 0 7 (dk_at dksX15_init_0 6 rfl rfl)
theorem dX15_init_9 : decode cX15_init 9 = .ok (.return_, 1) := dk_177 (dk_at dksX15_init_0 9 rfl rfl)
theorem q155 : (Jvm.Cond.initialized "FoldLister$Round$1Going") ∈ lw_all := lw_g (lw_at lw_m1 52 rfl) rfl
theorem q323 : (Jvm.Cond.fieldLinkNest "FoldLister$Round$1Going" (23 : Nat) "FoldLister" "page" "LFoldLister$Page;" "FoldLister") ∈ lw_tbl := lw_at lw_m1 220 rfl
theorem q863 : (Jvm.Cond.castable "FoldLister$Round$1Going" "java/util/Iterator") ∈ lw_tbl := lw_at lw_m4 40 rfl
theorem q864 : (Jvm.Cond.selects "FoldLister$Round$1Going" ({ cls := "java/util/Iterator", name := "hasNext", desc := "()Z" } : Jvm.MethodName) ({ cls := "FoldLister$Round$1Going", name := "hasNext", desc := "()Z" } : Jvm.MethodName)) ∈ lw_all := lw_g (lw_at lw_m4 41 rfl) rfl
theorem q865 : (Jvm.Cond.unhidden "FoldLister$Round$1Going" "hasNext" "()Z") ∈ lw_tbl := lw_at lw_m4 42 rfl
theorem q866 : (Jvm.Cond.instanceMethod ({ cls := "FoldLister$Round$1Going", name := "hasNext", desc := "()Z" } : Jvm.MethodName)) ∈ lw_all := lw_g (lw_at lw_m4 43 rfl) rfl
theorem q867 : (Jvm.Cond.publicMethod ({ cls := "FoldLister$Round$1Going", name := "hasNext", desc := "()Z" } : Jvm.MethodName)) ∈ lw_tbl := lw_at lw_m4 44 rfl
theorem q868 : (Jvm.Cond.code ({ cls := "FoldLister$Round$1Going", name := "hasNext", desc := "()Z" } : Jvm.MethodName) prog_19_method_2_code (1 : Nat) (Option.some Jvm.ClassFile.FieldType.boolean)) ∈ lw_all := lw_g (lw_at lw_m4 45 rfl) rfl
theorem q869 : (Jvm.Cond.methodLink "FoldLister$Round$1Going" (29 : Nat) ({ cls := "FoldLister$Page", name := "size", desc := "()I" } : Jvm.MethodName)) ∈ lw_all := lw_g (lw_at lw_m4 46 rfl) rfl
theorem q909 : (Jvm.Cond.selects "FoldLister$Round$1Going" ({ cls := "java/util/Iterator", name := "next", desc := "()Ljava/lang/Object;" } : Jvm.MethodName) ({ cls := "FoldLister$Round$1Going", name := "next", desc := "()Ljava/lang/Object;" } : Jvm.MethodName)) ∈ lw_all := lw_g (lw_at lw_m4 86 rfl) rfl
theorem q910 : (Jvm.Cond.unhidden "FoldLister$Round$1Going" "next" "()Ljava/lang/Object;") ∈ lw_tbl := lw_at lw_m4 87 rfl
theorem q911 : (Jvm.Cond.instanceMethod ({ cls := "FoldLister$Round$1Going", name := "next", desc := "()Ljava/lang/Object;" } : Jvm.MethodName)) ∈ lw_all := lw_g (lw_at lw_m4 88 rfl) rfl
theorem q912 : (Jvm.Cond.publicMethod ({ cls := "FoldLister$Round$1Going", name := "next", desc := "()Ljava/lang/Object;" } : Jvm.MethodName)) ∈ lw_tbl := lw_at lw_m4 89 rfl
theorem q913 : (Jvm.Cond.code ({ cls := "FoldLister$Round$1Going", name := "next", desc := "()Ljava/lang/Object;" } : Jvm.MethodName) prog_19_method_4_code (1 : Nat) (Option.some (Jvm.ClassFile.FieldType.object "java/lang/Object"))) ∈ lw_all := lw_g (lw_at lw_m4 90 rfl) rfl
theorem q914 : (Jvm.Cond.methodLink "FoldLister$Round$1Going" (44 : Nat) ({ cls := "FoldLister$Round$1Going", name := "next", desc := "()Ljava/lang/Integer;" } : Jvm.MethodName)) ∈ lw_all := lw_g (lw_at lw_m4 91 rfl) rfl
theorem q915 : (Jvm.Cond.instanceMethod ({ cls := "FoldLister$Round$1Going", name := "next", desc := "()Ljava/lang/Integer;" } : Jvm.MethodName)) ∈ lw_all := lw_g (lw_at lw_m4 92 rfl) rfl
theorem q916 : (Jvm.Cond.selects "FoldLister$Round$1Going" ({ cls := "FoldLister$Round$1Going", name := "next", desc := "()Ljava/lang/Integer;" } : Jvm.MethodName) ({ cls := "FoldLister$Round$1Going", name := "next", desc := "()Ljava/lang/Integer;" } : Jvm.MethodName)) ∈ lw_all := lw_g (lw_at lw_m4 93 rfl) rfl
theorem q917 : (Jvm.Cond.code ({ cls := "FoldLister$Round$1Going", name := "next", desc := "()Ljava/lang/Integer;" } : Jvm.MethodName) prog_19_method_3_code (1 : Nat) (Option.some (Jvm.ClassFile.FieldType.object "java/lang/Integer"))) ∈ lw_all := lw_g (lw_at lw_m4 94 rfl) rfl
theorem q918 : (Jvm.Cond.methodLink "FoldLister$Round$1Going" (38 : Nat) ({ cls := "java/lang/Integer", name := "valueOf", desc := "(I)Ljava/lang/Integer;" } : Jvm.MethodName)) ∈ lw_all := lw_g (lw_at lw_m4 95 rfl) rfl
theorem q1005 : (Jvm.Cond.selects "FoldLister$Round$1Going" ({ cls := "java/lang/Object", name := "getClass", desc := "()Ljava/lang/Class;" } : Jvm.MethodName) ({ cls := "java/lang/Object", name := "getClass", desc := "()Ljava/lang/Class;" } : Jvm.MethodName)) ∈ lw_all := lw_g (lw_at lw_m4 182 rfl) rfl
theorem q2228 : (Jvm.Cond.fieldLinkNest "FoldLister$Round$1Going" (35 : Nat) "FoldLister$Round" "from" "I" "FoldLister") ∈ lw_tbl := lw_at lw_m9 205 rfl
theorem q2230 : (Jvm.Cond.fieldLink "FoldLister$Round$1Going" (17 : Nat) "FoldLister$Round" "this$0" "LFoldLister;") ∈ lw_all := lw_g (lw_at lw_m9 207 rfl) rfl
theorem q2241 : (Jvm.Cond.instantiable "FoldLister$Round$1Going" (2 : Nat)) ∈ lw_all := lw_g (lw_at lw_m9 218 rfl) rfl
theorem q2243 : (Jvm.Cond.instanceMethod ({ cls := "FoldLister$Round$1Going", name := "<init>", desc := "(LFoldLister$Round;)V" } : Jvm.MethodName)) ∈ lw_all := lw_g (lw_at lw_m9 220 rfl) rfl
theorem q2244 : (Jvm.Cond.code ({ cls := "FoldLister$Round$1Going", name := "<init>", desc := "(LFoldLister$Round;)V" } : Jvm.MethodName) prog_19_method_1_code (2 : Nat) (Option.none : Option Jvm.ClassFile.FieldType)) ∈ lw_all := lw_g (lw_at lw_m9 221 rfl) rfl
theorem q2245 : (Jvm.Cond.methodLink "FoldLister$Round$1Going" (7 : Nat) ({ cls := "java/lang/Object", name := "<init>", desc := "()V" } : Jvm.MethodName)) ∈ lw_all := lw_g (lw_at lw_m9 222 rfl) rfl
theorem q2246 : (Jvm.Cond.fieldLink "FoldLister$Round$1Going" (13 : Nat) "FoldLister$Round$1Going" "gone" "I") ∈ lw_all := lw_g (lw_at lw_m9 223 rfl) rfl
theorem q2247 : (Jvm.Cond.fieldLink "FoldLister$Round$1Going" (1 : Nat) "FoldLister$Round$1Going" "this$1" "LFoldLister$Round;") ∈ lw_all := lw_g (lw_at lw_m9 224 rfl) rfl
theorem q2248 : (Jvm.Cond.lays "FoldLister$Round$1Going" "FoldLister$Round$1Going" "gone" "I") ∈ lw_all := lw_g (lw_at lw_m9 225 rfl) rfl
theorem q2249 : (Jvm.Cond.soleField "FoldLister$Round$1Going" "gone") ∈ lw_all := lw_g (lw_at lw_m9 226 rfl) rfl
theorem q2250 : (Jvm.Cond.laysFinal "FoldLister$Round$1Going" "FoldLister$Round$1Going" "this$1" "LFoldLister$Round;") ∈ lw_all := lw_g (lw_at lw_m9 227 rfl) rfl
theorem q2251 : (Jvm.Cond.soleField "FoldLister$Round$1Going" "this$1") ∈ lw_all := lw_g (lw_at lw_m9 228 rfl) rfl
theorem q2252 : (Jvm.Cond.superclass "FoldLister$Round$1Going" "java/lang/Object") ∈ lw_all := lw_g (lw_at lw_m9 229 rfl) rfl
theorem q2683 : (Jvm.Cond.unhidden "FoldLister$Round$1Going" "remove" "()V") ∈ lw_tbl := lw_at lw_m11 180 rfl
theorem q3636 : (Jvm.Cond.castable "FoldLister$Round$1Going" "java/lang/Object") ∈ lw_tbl := lw_at lw_m15 173 rfl
theorem in_X15 : ∀ w ∈ wsX150, w ∈ lw_all := lw_in wsX150 [2248, 2250] (by decide +kernel) (by decide +kernel)
/-! FoldLister$3 -/
set_option maxRecDepth 100000
def RX16 : String := "FoldLister$3"
def TX16 : u_T := fun k => match k with
  | 0 => ("FoldLister$3", "val$index", "I", true)
  | _ => ("FoldLister$3", "this$0", "LFoldLister;", true)
def tyX16 : Nat → FieldType := fun k => match k with
  | 0 => .int
  | _ => .object "FoldLister"
abbrev wsX160 : List Cond := u_ws RX16 TX16 2
theorem nmX16 : ∀ a, a < 2 → ∀ b, b < 2 → a ≠ b → (TX16 a).2.1 ≠ (TX16 b).2.1 := by decide +kernel
theorem tyX16_ok : ∀ k, k < 2 → parseFieldDescriptor (TX16 k).2.2.1 = some (tyX16 k) := by decide +kernel
abbrev cX16_isOf : ByteArray := prog_4_method_2_code
def yX16_isOf : MethodName := ⟨RX16, "isOf", "(I)Z"⟩
def dkwX16_isOf_0 : List UInt8 := [42, 180, 0, 1, 180, 0, 17, 27, 182, 0, 23, 42, 180, 0, 7, 160, 0, 7, 4, 167, 0, 4, 3, 172]
abbrev dktX16_isOf_0 : List UInt8 := dkwX16_isOf_0 ++ []
theorem dksX16_isOf_0 : cX16_isOf.data.toList.drop 0 = dktX16_isOf_0 := by decide +kernel
theorem dX16_isOf_0 : decode cX16_isOf 0 = .ok (.aload_n 0, 1) := dk_42 (dk_at dksX16_isOf_0 0 rfl rfl)
theorem dX16_isOf_1 : decode cX16_isOf 1 = .ok (.getfield 1, 3) := dk_180 0 1 (dk_at dksX16_isOf_0 1 rfl rfl)
theorem dX16_isOf_4 : decode cX16_isOf 4 = .ok (.getfield 17, 3) := dk_180 0 17 (dk_at dksX16_isOf_0 4 rfl rfl)
theorem dX16_isOf_7 : decode cX16_isOf 7 = .ok (.iload_n 1, 1) := dk_27 (dk_at dksX16_isOf_0 7 rfl rfl)
theorem dX16_isOf_8 : decode cX16_isOf 8 = .ok (.invokevirtual 23, 3) := dk_182 0 23 (dk_at dksX16_isOf_0 8 rfl rfl)
theorem dX16_isOf_11 : decode cX16_isOf 11 = .ok (.aload_n 0, 1) := dk_42 (dk_at dksX16_isOf_0 11 rfl rfl)
theorem dX16_isOf_12 : decode cX16_isOf 12 = .ok (.getfield 7, 3) := dk_180 0 7 (dk_at dksX16_isOf_0 12 rfl rfl)
theorem dX16_isOf_15 : decode cX16_isOf 15 = .ok (.if_icmp .ne 7, 3) := dk_160 0 7 (dk_at dksX16_isOf_0 15 rfl rfl)
theorem dX16_isOf_18 : decode cX16_isOf 18 = .ok (.iconst 1, 1) := dk_4 (dk_at dksX16_isOf_0 18 rfl rfl)
theorem dX16_isOf_19 : decode cX16_isOf 19 = .ok (.goto 4, 3) := dk_167 0 4 (dk_at dksX16_isOf_0 19 rfl rfl)
theorem dX16_isOf_22 : decode cX16_isOf 22 = .ok (.iconst 0, 1) := dk_3 (dk_at dksX16_isOf_0 22 rfl rfl)
theorem dX16_isOf_23 : decode cX16_isOf 23 = .ok (.ireturn, 1) := dk_172 (dk_at dksX16_isOf_0 23 rfl rfl)
abbrev cX16_init : ByteArray := prog_4_method_1_code
def yX16_init : MethodName := ⟨RX16, "<init>", "(LFoldLister;I)V"⟩
def dkwX16_init_0 : List UInt8 := [42, 43, 181, 0, 1, 42, 28, 181, 0, 7, 42, 183, 0, 11, 177]
abbrev dktX16_init_0 : List UInt8 := dkwX16_init_0 ++ []
theorem dksX16_init_0 : cX16_init.data.toList.drop 0 = dktX16_init_0 := by decide +kernel
theorem dX16_init_0 : decode cX16_init 0 = .ok (.aload_n 0, 1) := dk_42 (dk_at dksX16_init_0 0 rfl rfl)
theorem dX16_init_1 : decode cX16_init 1 = .ok (.aload_n 1, 1) := dk_43 (dk_at dksX16_init_0 1 rfl rfl)
theorem dX16_init_2 : decode cX16_init 2 = .ok (.putfield 1, 3) := dk_181 0 1 (dk_at dksX16_init_0 2 rfl rfl)
theorem dX16_init_5 : decode cX16_init 5 = .ok (.aload_n 0, 1) := dk_42 (dk_at dksX16_init_0 5 rfl rfl)
theorem dX16_init_6 : decode cX16_init 6 = .ok (.iload_n 2, 1) := dk_28 (dk_at dksX16_init_0 6 rfl rfl)
theorem dX16_init_7 : decode cX16_init 7 = .ok (.putfield 7, 3) := dk_181 0 7 (dk_at dksX16_init_0 7 rfl rfl)
theorem dX16_init_10 : decode cX16_init 10 = .ok (.aload_n 0, 1) := dk_42 (dk_at dksX16_init_0 10 rfl rfl)
theorem dX16_init_11 : decode cX16_init 11 = .ok (.invokespecial 11, 3) := dk_183 0 11 (dk_at dksX16_init_0 11 rfl rfl)
theorem dX16_init_14 : decode cX16_init 14 = .ok (.return_, 1) := dk_177 (dk_at dksX16_init_0 14 rfl rfl)
theorem q158 : (Jvm.Cond.initialized "FoldLister$3") ∈ lw_all := lw_g (lw_at lw_m1 55 rfl) rfl
theorem q322 : (Jvm.Cond.fieldLinkNest "FoldLister$3" (17 : Nat) "FoldLister" "page" "LFoldLister$Page;" "FoldLister") ∈ lw_tbl := lw_at lw_m1 219 rfl
theorem q992 : (Jvm.Cond.selects "FoldLister$3" ({ cls := "java/lang/Object", name := "getClass", desc := "()Ljava/lang/Class;" } : Jvm.MethodName) ({ cls := "java/lang/Object", name := "getClass", desc := "()Ljava/lang/Class;" } : Jvm.MethodName)) ∈ lw_all := lw_g (lw_at lw_m4 169 rfl) rfl
theorem q2095 : (Jvm.Cond.castable "FoldLister$3" "FoldLister$Feature") ∈ lw_tbl := lw_at lw_m9 72 rfl
theorem q2096 : (Jvm.Cond.selects "FoldLister$3" ({ cls := "FoldLister$Feature", name := "isOf", desc := "(I)Z" } : Jvm.MethodName) ({ cls := "FoldLister$3", name := "isOf", desc := "(I)Z" } : Jvm.MethodName)) ∈ lw_all := lw_g (lw_at lw_m9 73 rfl) rfl
theorem q2097 : (Jvm.Cond.unhidden "FoldLister$3" "isOf" "(I)Z") ∈ lw_tbl := lw_at lw_m9 74 rfl
theorem q2098 : (Jvm.Cond.instanceMethod ({ cls := "FoldLister$3", name := "isOf", desc := "(I)Z" } : Jvm.MethodName)) ∈ lw_all := lw_g (lw_at lw_m9 75 rfl) rfl
theorem q2099 : (Jvm.Cond.publicMethod ({ cls := "FoldLister$3", name := "isOf", desc := "(I)Z" } : Jvm.MethodName)) ∈ lw_tbl := lw_at lw_m9 76 rfl
theorem q2100 : (Jvm.Cond.code ({ cls := "FoldLister$3", name := "isOf", desc := "(I)Z" } : Jvm.MethodName) prog_4_method_2_code (2 : Nat) (Option.some Jvm.ClassFile.FieldType.boolean)) ∈ lw_all := lw_g (lw_at lw_m9 77 rfl) rfl
theorem q2101 : (Jvm.Cond.methodLink "FoldLister$3" (23 : Nat) ({ cls := "FoldLister$Page", name := "target", desc := "(I)I" } : Jvm.MethodName)) ∈ lw_all := lw_g (lw_at lw_m9 78 rfl) rfl
theorem q2492 : (Jvm.Cond.instantiable "FoldLister$3" (2 : Nat)) ∈ lw_all := lw_g (lw_at lw_m10 229 rfl) rfl
theorem q2494 : (Jvm.Cond.instanceMethod ({ cls := "FoldLister$3", name := "<init>", desc := "(LFoldLister;I)V" } : Jvm.MethodName)) ∈ lw_all := lw_g (lw_at lw_m10 231 rfl) rfl
theorem q2495 : (Jvm.Cond.code ({ cls := "FoldLister$3", name := "<init>", desc := "(LFoldLister;I)V" } : Jvm.MethodName) prog_4_method_1_code (3 : Nat) (Option.none : Option Jvm.ClassFile.FieldType)) ∈ lw_all := lw_g (lw_at lw_m10 232 rfl) rfl
theorem q2496 : (Jvm.Cond.methodLink "FoldLister$3" (11 : Nat) ({ cls := "java/lang/Object", name := "<init>", desc := "()V" } : Jvm.MethodName)) ∈ lw_all := lw_g (lw_at lw_m10 233 rfl) rfl
theorem q2497 : (Jvm.Cond.fieldLink "FoldLister$3" (7 : Nat) "FoldLister$3" "val$index" "I") ∈ lw_all := lw_g (lw_at lw_m10 234 rfl) rfl
theorem q2498 : (Jvm.Cond.fieldLink "FoldLister$3" (1 : Nat) "FoldLister$3" "this$0" "LFoldLister;") ∈ lw_all := lw_g (lw_at lw_m10 235 rfl) rfl
theorem q2499 : (Jvm.Cond.laysFinal "FoldLister$3" "FoldLister$3" "val$index" "I") ∈ lw_all := lw_g (lw_at lw_m10 236 rfl) rfl
theorem q2500 : (Jvm.Cond.soleField "FoldLister$3" "val$index") ∈ lw_all := lw_g (lw_at lw_m10 237 rfl) rfl
theorem q2501 : (Jvm.Cond.laysFinal "FoldLister$3" "FoldLister$3" "this$0" "LFoldLister;") ∈ lw_all := lw_g (lw_at lw_m10 238 rfl) rfl
theorem q2502 : (Jvm.Cond.soleField "FoldLister$3" "this$0") ∈ lw_all := lw_g (lw_at lw_m10 239 rfl) rfl
theorem q2503 : (Jvm.Cond.superclass "FoldLister$3" "java/lang/Object") ∈ lw_all := lw_g (lw_at lw_m11 0 rfl) rfl
theorem q3639 : (Jvm.Cond.castable "FoldLister$3" "java/lang/Object") ∈ lw_tbl := lw_at lw_m15 176 rfl
theorem in_X16 : ∀ w ∈ wsX160, w ∈ lw_all := lw_in wsX160 [2499, 2501] (by decide +kernel) (by decide +kernel)
/-! FoldLister$4 -/
set_option maxRecDepth 100000
def RX17 : String := "FoldLister$4"
def TX17 : u_T := fun k => match k with
  | 0 => ("FoldLister$4", "val$index", "I", true)
  | 1 => ("FoldLister$4", "val$closed", "Z", true)
  | _ => ("FoldLister$4", "this$0", "LFoldLister;", true)
def tyX17 : Nat → FieldType := fun k => match k with
  | 0 => .int
  | 1 => .boolean
  | _ => .object "FoldLister"
abbrev wsX170 : List Cond := u_ws RX17 TX17 3
theorem nmX17 : ∀ a, a < 3 → ∀ b, b < 3 → a ≠ b → (TX17 a).2.1 ≠ (TX17 b).2.1 := by decide +kernel
theorem tyX17_ok : ∀ k, k < 3 → parseFieldDescriptor (TX17 k).2.2.1 = some (tyX17 k) := by decide +kernel
abbrev cX17_isClosed : ByteArray := prog_5_method_2_code
def yX17_isClosed : MethodName := ⟨RX17, "isClosed", "(I)Z"⟩
def dkwX17_isClosed_1 : List UInt8 := [182, 0, 27, 180, 0, 33, 172]
abbrev dktX17_isClosed_1 : List UInt8 := dkwX17_isClosed_1 ++ []
def dkwX17_isClosed_0 : List UInt8 := [27, 42, 180, 0, 7, 160, 0, 10, 42, 180, 0, 11, 167, 0, 17, 42, 180, 0, 1, 180, 0, 21, 27]
abbrev dktX17_isClosed_0 : List UInt8 := dkwX17_isClosed_0 ++ dktX17_isClosed_1
theorem dksX17_isClosed_0 : cX17_isClosed.data.toList.drop 0 = dktX17_isClosed_0 := by decide +kernel
theorem dksX17_isClosed_1 : cX17_isClosed.data.toList.drop 23 = dktX17_isClosed_1 := dk_seg dksX17_isClosed_0 23 rfl rfl
theorem dX17_isClosed_0 : decode cX17_isClosed 0 = .ok (.iload_n 1, 1) := dk_27 (dk_at dksX17_isClosed_0 0 rfl rfl)
theorem dX17_isClosed_1 : decode cX17_isClosed 1 = .ok (.aload_n 0, 1) := dk_42 (dk_at dksX17_isClosed_0 1 rfl rfl)
theorem dX17_isClosed_2 : decode cX17_isClosed 2 = .ok (.getfield 7, 3) := dk_180 0 7 (dk_at dksX17_isClosed_0 2 rfl rfl)
theorem dX17_isClosed_5 : decode cX17_isClosed 5 = .ok (.if_icmp .ne 10, 3) := dk_160 0 10 (dk_at dksX17_isClosed_0 5 rfl rfl)
theorem dX17_isClosed_8 : decode cX17_isClosed 8 = .ok (.aload_n 0, 1) := dk_42 (dk_at dksX17_isClosed_0 8 rfl rfl)
theorem dX17_isClosed_9 : decode cX17_isClosed 9 = .ok (.getfield 11, 3) := dk_180 0 11 (dk_at dksX17_isClosed_0 9 rfl rfl)
theorem dX17_isClosed_12 : decode cX17_isClosed 12 = .ok (.goto 17, 3) := dk_167 0 17 (dk_at dksX17_isClosed_0 12 rfl rfl)
theorem dX17_isClosed_15 : decode cX17_isClosed 15 = .ok (.aload_n 0, 1) := dk_42 (dk_at dksX17_isClosed_0 15 rfl rfl)
theorem dX17_isClosed_16 : decode cX17_isClosed 16 = .ok (.getfield 1, 3) := dk_180 0 1 (dk_at dksX17_isClosed_0 16 rfl rfl)
theorem dX17_isClosed_19 : decode cX17_isClosed 19 = .ok (.getfield 21, 3) := dk_180 0 21 (dk_at dksX17_isClosed_0 19 rfl rfl)
theorem dX17_isClosed_22 : decode cX17_isClosed 22 = .ok (.iload_n 1, 1) := dk_27 (dk_at dksX17_isClosed_0 22 rfl rfl)
theorem dX17_isClosed_23 : decode cX17_isClosed 23 = .ok (.invokevirtual 27, 3) := dk_182 0 27 (dk_at dksX17_isClosed_1 0 rfl rfl)
theorem dX17_isClosed_26 : decode cX17_isClosed 26 = .ok (.getfield 33, 3) := dk_180 0 33 (dk_at dksX17_isClosed_1 3 rfl rfl)
theorem dX17_isClosed_29 : decode cX17_isClosed 29 = .ok (.ireturn, 1) := dk_172 (dk_at dksX17_isClosed_1 6 rfl rfl)
abbrev cX17_init : ByteArray := prog_5_method_1_code
def yX17_init : MethodName := ⟨RX17, "<init>", "(LFoldLister;IZ)V"⟩
def dkwX17_init_0 : List UInt8 := [42, 43, 181, 0, 1, 42, 28, 181, 0, 7, 42, 29, 181, 0, 11, 42, 183, 0, 15, 177]
abbrev dktX17_init_0 : List UInt8 := dkwX17_init_0 ++ []
theorem dksX17_init_0 : cX17_init.data.toList.drop 0 = dktX17_init_0 := by decide +kernel
theorem dX17_init_0 : decode cX17_init 0 = .ok (.aload_n 0, 1) := dk_42 (dk_at dksX17_init_0 0 rfl rfl)
theorem dX17_init_1 : decode cX17_init 1 = .ok (.aload_n 1, 1) := dk_43 (dk_at dksX17_init_0 1 rfl rfl)
theorem dX17_init_2 : decode cX17_init 2 = .ok (.putfield 1, 3) := dk_181 0 1 (dk_at dksX17_init_0 2 rfl rfl)
theorem dX17_init_5 : decode cX17_init 5 = .ok (.aload_n 0, 1) := dk_42 (dk_at dksX17_init_0 5 rfl rfl)
theorem dX17_init_6 : decode cX17_init 6 = .ok (.iload_n 2, 1) := dk_28 (dk_at dksX17_init_0 6 rfl rfl)
theorem dX17_init_7 : decode cX17_init 7 = .ok (.putfield 7, 3) := dk_181 0 7 (dk_at dksX17_init_0 7 rfl rfl)
theorem dX17_init_10 : decode cX17_init 10 = .ok (.aload_n 0, 1) := dk_42 (dk_at dksX17_init_0 10 rfl rfl)
theorem dX17_init_11 : decode cX17_init 11 = .ok (.iload_n 3, 1) := dk_29 (dk_at dksX17_init_0 11 rfl rfl)
theorem dX17_init_12 : decode cX17_init 12 = .ok (.putfield 11, 3) := dk_181 0 11 (dk_at dksX17_init_0 12 rfl rfl)
theorem dX17_init_15 : decode cX17_init 15 = .ok (.aload_n 0, 1) := dk_42 (dk_at dksX17_init_0 15 rfl rfl)
theorem dX17_init_16 : decode cX17_init 16 = .ok (.invokespecial 15, 3) := dk_183 0 15 (dk_at dksX17_init_0 16 rfl rfl)
theorem dX17_init_19 : decode cX17_init 19 = .ok (.return_, 1) := dk_177 (dk_at dksX17_init_0 19 rfl rfl)
theorem q159 : (Jvm.Cond.initialized "FoldLister$4") ∈ lw_all := lw_g (lw_at lw_m1 56 rfl) rfl
theorem q324 : (Jvm.Cond.fieldLinkNest "FoldLister$4" (21 : Nat) "FoldLister" "page" "LFoldLister$Page;" "FoldLister") ∈ lw_tbl := lw_at lw_m1 221 rfl
theorem q993 : (Jvm.Cond.selects "FoldLister$4" ({ cls := "java/lang/Object", name := "getClass", desc := "()Ljava/lang/Class;" } : Jvm.MethodName) ({ cls := "java/lang/Object", name := "getClass", desc := "()Ljava/lang/Class;" } : Jvm.MethodName)) ∈ lw_all := lw_g (lw_at lw_m4 170 rfl) rfl
theorem q1407 : (Jvm.Cond.castable "FoldLister$4" "FoldLister$Folds") ∈ lw_tbl := lw_at lw_m6 104 rfl
theorem q1408 : (Jvm.Cond.selects "FoldLister$4" ({ cls := "FoldLister$Folds", name := "isClosed", desc := "(I)Z" } : Jvm.MethodName) ({ cls := "FoldLister$4", name := "isClosed", desc := "(I)Z" } : Jvm.MethodName)) ∈ lw_all := lw_g (lw_at lw_m6 105 rfl) rfl
theorem q1409 : (Jvm.Cond.unhidden "FoldLister$4" "isClosed" "(I)Z") ∈ lw_tbl := lw_at lw_m6 106 rfl
theorem q1410 : (Jvm.Cond.instanceMethod ({ cls := "FoldLister$4", name := "isClosed", desc := "(I)Z" } : Jvm.MethodName)) ∈ lw_all := lw_g (lw_at lw_m6 107 rfl) rfl
theorem q1411 : (Jvm.Cond.publicMethod ({ cls := "FoldLister$4", name := "isClosed", desc := "(I)Z" } : Jvm.MethodName)) ∈ lw_tbl := lw_at lw_m6 108 rfl
theorem q1412 : (Jvm.Cond.code ({ cls := "FoldLister$4", name := "isClosed", desc := "(I)Z" } : Jvm.MethodName) prog_5_method_2_code (2 : Nat) (Option.some Jvm.ClassFile.FieldType.boolean)) ∈ lw_all := lw_g (lw_at lw_m6 109 rfl) rfl
theorem q1413 : (Jvm.Cond.methodLink "FoldLister$4" (27 : Nat) ({ cls := "FoldLister$Page", name := "line", desc := "(I)LFoldLister$Line;" } : Jvm.MethodName)) ∈ lw_all := lw_g (lw_at lw_m6 110 rfl) rfl
theorem q1584 : (Jvm.Cond.instantiable "FoldLister$4" (3 : Nat)) ∈ lw_all := lw_g (lw_at lw_m7 41 rfl) rfl
theorem q1586 : (Jvm.Cond.instanceMethod ({ cls := "FoldLister$4", name := "<init>", desc := "(LFoldLister;IZ)V" } : Jvm.MethodName)) ∈ lw_all := lw_g (lw_at lw_m7 43 rfl) rfl
theorem q1587 : (Jvm.Cond.code ({ cls := "FoldLister$4", name := "<init>", desc := "(LFoldLister;IZ)V" } : Jvm.MethodName) prog_5_method_1_code (4 : Nat) (Option.none : Option Jvm.ClassFile.FieldType)) ∈ lw_all := lw_g (lw_at lw_m7 44 rfl) rfl
theorem q1588 : (Jvm.Cond.methodLink "FoldLister$4" (15 : Nat) ({ cls := "java/lang/Object", name := "<init>", desc := "()V" } : Jvm.MethodName)) ∈ lw_all := lw_g (lw_at lw_m7 45 rfl) rfl
theorem q1589 : (Jvm.Cond.fieldLink "FoldLister$4" (7 : Nat) "FoldLister$4" "val$index" "I") ∈ lw_all := lw_g (lw_at lw_m7 46 rfl) rfl
theorem q1590 : (Jvm.Cond.fieldLink "FoldLister$4" (11 : Nat) "FoldLister$4" "val$closed" "Z") ∈ lw_all := lw_g (lw_at lw_m7 47 rfl) rfl
theorem q1591 : (Jvm.Cond.fieldLink "FoldLister$4" (1 : Nat) "FoldLister$4" "this$0" "LFoldLister;") ∈ lw_all := lw_g (lw_at lw_m7 48 rfl) rfl
theorem q1592 : (Jvm.Cond.laysFinal "FoldLister$4" "FoldLister$4" "val$index" "I") ∈ lw_all := lw_g (lw_at lw_m7 49 rfl) rfl
theorem q1593 : (Jvm.Cond.soleField "FoldLister$4" "val$index") ∈ lw_all := lw_g (lw_at lw_m7 50 rfl) rfl
theorem q1594 : (Jvm.Cond.laysFinal "FoldLister$4" "FoldLister$4" "val$closed" "Z") ∈ lw_all := lw_g (lw_at lw_m7 51 rfl) rfl
theorem q1595 : (Jvm.Cond.soleField "FoldLister$4" "val$closed") ∈ lw_all := lw_g (lw_at lw_m7 52 rfl) rfl
theorem q1596 : (Jvm.Cond.laysFinal "FoldLister$4" "FoldLister$4" "this$0" "LFoldLister;") ∈ lw_all := lw_g (lw_at lw_m7 53 rfl) rfl
theorem q1597 : (Jvm.Cond.soleField "FoldLister$4" "this$0") ∈ lw_all := lw_g (lw_at lw_m7 54 rfl) rfl
theorem q1598 : (Jvm.Cond.superclass "FoldLister$4" "java/lang/Object") ∈ lw_all := lw_g (lw_at lw_m7 55 rfl) rfl
theorem q1802 : (Jvm.Cond.fieldLinkNest "FoldLister$4" (33 : Nat) "FoldLister$Line" "closed" "Z" "FoldLister") ∈ lw_tbl := lw_at lw_m8 19 rfl
theorem q3640 : (Jvm.Cond.castable "FoldLister$4" "java/lang/Object") ∈ lw_tbl := lw_at lw_m15 177 rfl
theorem in_X17 : ∀ w ∈ wsX170, w ∈ lw_all := lw_in wsX170 [1592, 1594, 1596] (by decide +kernel) (by decide +kernel)
/-! FoldLister$5 -/
set_option maxRecDepth 100000
def RX18 : String := "FoldLister$5"
def TX18 : u_T := fun k => match k with
  | 0 => ("FoldLister$5", "val$opened", "Ljava/util/BitSet;", true)
  | _ => ("FoldLister$5", "this$0", "LFoldLister;", true)
def tyX18 : Nat → FieldType := fun k => match k with
  | 0 => .object "java/util/BitSet"
  | _ => .object "FoldLister"
abbrev wsX180 : List Cond := u_ws RX18 TX18 2
theorem nmX18 : ∀ a, a < 2 → ∀ b, b < 2 → a ≠ b → (TX18 a).2.1 ≠ (TX18 b).2.1 := by decide +kernel
theorem tyX18_ok : ∀ k, k < 2 → parseFieldDescriptor (TX18 k).2.2.1 = some (tyX18 k) := by decide +kernel
abbrev cX18_isClosed : ByteArray := prog_6_method_2_code
def yX18_isClosed : MethodName := ⟨RX18, "isClosed", "(I)Z"⟩
def dkwX18_isClosed_1 : List UInt8 := [182, 0, 35, 154, 0, 7, 4, 167, 0, 4, 3, 172]
abbrev dktX18_isClosed_1 : List UInt8 := dkwX18_isClosed_1 ++ []
def dkwX18_isClosed_0 : List UInt8 := [42, 180, 0, 1, 180, 0, 17, 27, 182, 0, 23, 180, 0, 29, 153, 0, 18, 42, 180, 0, 7, 27]
abbrev dktX18_isClosed_0 : List UInt8 := dkwX18_isClosed_0 ++ dktX18_isClosed_1
theorem dksX18_isClosed_0 : cX18_isClosed.data.toList.drop 0 = dktX18_isClosed_0 := by decide +kernel
theorem dksX18_isClosed_1 : cX18_isClosed.data.toList.drop 22 = dktX18_isClosed_1 := dk_seg dksX18_isClosed_0 22 rfl rfl
theorem dX18_isClosed_0 : decode cX18_isClosed 0 = .ok (.aload_n 0, 1) := dk_42 (dk_at dksX18_isClosed_0 0 rfl rfl)
theorem dX18_isClosed_1 : decode cX18_isClosed 1 = .ok (.getfield 1, 3) := dk_180 0 1 (dk_at dksX18_isClosed_0 1 rfl rfl)
theorem dX18_isClosed_4 : decode cX18_isClosed 4 = .ok (.getfield 17, 3) := dk_180 0 17 (dk_at dksX18_isClosed_0 4 rfl rfl)
theorem dX18_isClosed_7 : decode cX18_isClosed 7 = .ok (.iload_n 1, 1) := dk_27 (dk_at dksX18_isClosed_0 7 rfl rfl)
theorem dX18_isClosed_8 : decode cX18_isClosed 8 = .ok (.invokevirtual 23, 3) := dk_182 0 23 (dk_at dksX18_isClosed_0 8 rfl rfl)
theorem dX18_isClosed_11 : decode cX18_isClosed 11 = .ok (.getfield 29, 3) := dk_180 0 29 (dk_at dksX18_isClosed_0 11 rfl rfl)
theorem dX18_isClosed_14 : decode cX18_isClosed 14 = .ok (.ifCond .eq 18, 3) := dk_153 0 18 (dk_at dksX18_isClosed_0 14 rfl rfl)
theorem dX18_isClosed_17 : decode cX18_isClosed 17 = .ok (.aload_n 0, 1) := dk_42 (dk_at dksX18_isClosed_0 17 rfl rfl)
theorem dX18_isClosed_18 : decode cX18_isClosed 18 = .ok (.getfield 7, 3) := dk_180 0 7 (dk_at dksX18_isClosed_0 18 rfl rfl)
theorem dX18_isClosed_21 : decode cX18_isClosed 21 = .ok (.iload_n 1, 1) := dk_27 (dk_at dksX18_isClosed_0 21 rfl rfl)
theorem dX18_isClosed_22 : decode cX18_isClosed 22 = .ok (.invokevirtual 35, 3) := dk_182 0 35 (dk_at dksX18_isClosed_1 0 rfl rfl)
theorem dX18_isClosed_25 : decode cX18_isClosed 25 = .ok (.ifCond .ne 7, 3) := dk_154 0 7 (dk_at dksX18_isClosed_1 3 rfl rfl)
theorem dX18_isClosed_28 : decode cX18_isClosed 28 = .ok (.iconst 1, 1) := dk_4 (dk_at dksX18_isClosed_1 6 rfl rfl)
theorem dX18_isClosed_29 : decode cX18_isClosed 29 = .ok (.goto 4, 3) := dk_167 0 4 (dk_at dksX18_isClosed_1 7 rfl rfl)
theorem dX18_isClosed_32 : decode cX18_isClosed 32 = .ok (.iconst 0, 1) := dk_3 (dk_at dksX18_isClosed_1 10 rfl rfl)
theorem dX18_isClosed_33 : decode cX18_isClosed 33 = .ok (.ireturn, 1) := dk_172 (dk_at dksX18_isClosed_1 11 rfl rfl)
abbrev cX18_init : ByteArray := prog_6_method_1_code
def yX18_init : MethodName := ⟨RX18, "<init>", "(LFoldLister;Ljava/util/BitSet;)V"⟩
def dkwX18_init_0 : List UInt8 := [42, 43, 181, 0, 1, 42, 44, 181, 0, 7, 42, 183, 0, 11, 177]
abbrev dktX18_init_0 : List UInt8 := dkwX18_init_0 ++ []
theorem dksX18_init_0 : cX18_init.data.toList.drop 0 = dktX18_init_0 := by decide +kernel
theorem dX18_init_0 : decode cX18_init 0 = .ok (.aload_n 0, 1) := dk_42 (dk_at dksX18_init_0 0 rfl rfl)
theorem dX18_init_1 : decode cX18_init 1 = .ok (.aload_n 1, 1) := dk_43 (dk_at dksX18_init_0 1 rfl rfl)
theorem dX18_init_2 : decode cX18_init 2 = .ok (.putfield 1, 3) := dk_181 0 1 (dk_at dksX18_init_0 2 rfl rfl)
theorem dX18_init_5 : decode cX18_init 5 = .ok (.aload_n 0, 1) := dk_42 (dk_at dksX18_init_0 5 rfl rfl)
theorem dX18_init_6 : decode cX18_init 6 = .ok (.aload_n 2, 1) := dk_44 (dk_at dksX18_init_0 6 rfl rfl)
theorem dX18_init_7 : decode cX18_init 7 = .ok (.putfield 7, 3) := dk_181 0 7 (dk_at dksX18_init_0 7 rfl rfl)
theorem dX18_init_10 : decode cX18_init 10 = .ok (.aload_n 0, 1) := dk_42 (dk_at dksX18_init_0 10 rfl rfl)
theorem dX18_init_11 : decode cX18_init 11 = .ok (.invokespecial 11, 3) := dk_183 0 11 (dk_at dksX18_init_0 11 rfl rfl)
theorem dX18_init_14 : decode cX18_init 14 = .ok (.return_, 1) := dk_177 (dk_at dksX18_init_0 14 rfl rfl)
theorem q160 : (Jvm.Cond.initialized "FoldLister$5") ∈ lw_all := lw_g (lw_at lw_m1 57 rfl) rfl
theorem q319 : (Jvm.Cond.fieldLinkNest "FoldLister$5" (17 : Nat) "FoldLister" "page" "LFoldLister$Page;" "FoldLister") ∈ lw_tbl := lw_at lw_m1 216 rfl
theorem q994 : (Jvm.Cond.selects "FoldLister$5" ({ cls := "java/lang/Object", name := "getClass", desc := "()Ljava/lang/Class;" } : Jvm.MethodName) ({ cls := "java/lang/Object", name := "getClass", desc := "()Ljava/lang/Class;" } : Jvm.MethodName)) ∈ lw_all := lw_g (lw_at lw_m4 171 rfl) rfl
theorem q1414 : (Jvm.Cond.castable "FoldLister$5" "FoldLister$Folds") ∈ lw_tbl := lw_at lw_m6 111 rfl
theorem q1415 : (Jvm.Cond.selects "FoldLister$5" ({ cls := "FoldLister$Folds", name := "isClosed", desc := "(I)Z" } : Jvm.MethodName) ({ cls := "FoldLister$5", name := "isClosed", desc := "(I)Z" } : Jvm.MethodName)) ∈ lw_all := lw_g (lw_at lw_m6 112 rfl) rfl
theorem q1416 : (Jvm.Cond.unhidden "FoldLister$5" "isClosed" "(I)Z") ∈ lw_tbl := lw_at lw_m6 113 rfl
theorem q1417 : (Jvm.Cond.instanceMethod ({ cls := "FoldLister$5", name := "isClosed", desc := "(I)Z" } : Jvm.MethodName)) ∈ lw_all := lw_g (lw_at lw_m6 114 rfl) rfl
theorem q1418 : (Jvm.Cond.publicMethod ({ cls := "FoldLister$5", name := "isClosed", desc := "(I)Z" } : Jvm.MethodName)) ∈ lw_tbl := lw_at lw_m6 115 rfl
theorem q1419 : (Jvm.Cond.code ({ cls := "FoldLister$5", name := "isClosed", desc := "(I)Z" } : Jvm.MethodName) prog_6_method_2_code (2 : Nat) (Option.some Jvm.ClassFile.FieldType.boolean)) ∈ lw_all := lw_g (lw_at lw_m6 116 rfl) rfl
theorem q1420 : (Jvm.Cond.methodLink "FoldLister$5" (23 : Nat) ({ cls := "FoldLister$Page", name := "line", desc := "(I)LFoldLister$Line;" } : Jvm.MethodName)) ∈ lw_all := lw_g (lw_at lw_m6 117 rfl) rfl
theorem q1421 : (Jvm.Cond.methodLink "FoldLister$5" (35 : Nat) ({ cls := "java/util/BitSet", name := "get", desc := "(I)Z" } : Jvm.MethodName)) ∈ lw_all := lw_g (lw_at lw_m6 118 rfl) rfl
theorem q1800 : (Jvm.Cond.fieldLinkNest "FoldLister$5" (29 : Nat) "FoldLister$Line" "closed" "Z" "FoldLister") ∈ lw_tbl := lw_at lw_m8 17 rfl
theorem q2541 : (Jvm.Cond.instantiable "FoldLister$5" (2 : Nat)) ∈ lw_all := lw_g (lw_at lw_m11 38 rfl) rfl
theorem q2543 : (Jvm.Cond.instanceMethod ({ cls := "FoldLister$5", name := "<init>", desc := "(LFoldLister;Ljava/util/BitSet;)V" } : Jvm.MethodName)) ∈ lw_all := lw_g (lw_at lw_m11 40 rfl) rfl
theorem q2544 : (Jvm.Cond.code ({ cls := "FoldLister$5", name := "<init>", desc := "(LFoldLister;Ljava/util/BitSet;)V" } : Jvm.MethodName) prog_6_method_1_code (3 : Nat) (Option.none : Option Jvm.ClassFile.FieldType)) ∈ lw_all := lw_g (lw_at lw_m11 41 rfl) rfl
theorem q2545 : (Jvm.Cond.methodLink "FoldLister$5" (11 : Nat) ({ cls := "java/lang/Object", name := "<init>", desc := "()V" } : Jvm.MethodName)) ∈ lw_all := lw_g (lw_at lw_m11 42 rfl) rfl
theorem q2546 : (Jvm.Cond.fieldLink "FoldLister$5" (7 : Nat) "FoldLister$5" "val$opened" "Ljava/util/BitSet;") ∈ lw_all := lw_g (lw_at lw_m11 43 rfl) rfl
theorem q2547 : (Jvm.Cond.fieldLink "FoldLister$5" (1 : Nat) "FoldLister$5" "this$0" "LFoldLister;") ∈ lw_all := lw_g (lw_at lw_m11 44 rfl) rfl
theorem q2548 : (Jvm.Cond.laysFinal "FoldLister$5" "FoldLister$5" "val$opened" "Ljava/util/BitSet;") ∈ lw_all := lw_g (lw_at lw_m11 45 rfl) rfl
theorem q2549 : (Jvm.Cond.soleField "FoldLister$5" "val$opened") ∈ lw_all := lw_g (lw_at lw_m11 46 rfl) rfl
theorem q2550 : (Jvm.Cond.laysFinal "FoldLister$5" "FoldLister$5" "this$0" "LFoldLister;") ∈ lw_all := lw_g (lw_at lw_m11 47 rfl) rfl
theorem q2551 : (Jvm.Cond.soleField "FoldLister$5" "this$0") ∈ lw_all := lw_g (lw_at lw_m11 48 rfl) rfl
theorem q2552 : (Jvm.Cond.superclass "FoldLister$5" "java/lang/Object") ∈ lw_all := lw_g (lw_at lw_m11 49 rfl) rfl
theorem q3641 : (Jvm.Cond.castable "FoldLister$5" "java/lang/Object") ∈ lw_tbl := lw_at lw_m15 178 rfl
theorem in_X18 : ∀ w ∈ wsX180, w ∈ lw_all := lw_in wsX180 [2548, 2550] (by decide +kernel) (by decide +kernel)
