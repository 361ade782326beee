/-! FoldListerModel -/
set_option maxRecDepth 100000
def RX3 : String := "FoldListerModel"
def TX3 : u_T := fun k => match k with
  | 0 => ("FoldListerModel", "thrown", "I", false)
  | 1 => ("FoldListerModel", "now", "[I", true)
  | 2 => ("FoldListerModel", "aside", "[I", true)
  | 3 => ("FoldListerModel", "undos", "[I", true)
  | 4 => ("FoldListerModel", "saved", "[I", true)
  | 5 => ("FoldListerModel", "isSaved", "[Z", true)
  | 6 => ("FoldListerModel", "undoMany", "I", false)
  | 7 => ("FoldListerModel", "buffer", "[B", true)
  | 8 => ("FoldListerModel", "buffered", "I", false)
  | 9 => ("FoldListerModel", "parseCode", "I", false)
  | 10 => ("FoldListerModel", "parseAt", "I", false)
  | 11 => ("FoldListerModel", "mate", "[I", true)
  | 12 => ("FoldListerModel", "stack", "[I", true)
  | 13 => ("FoldListerModel", "regionOf", "[I", true)
  | 14 => ("FoldListerModel", "first", "[I", true)
  | 15 => ("FoldListerModel", "last", "[I", true)
  | 16 => ("FoldListerModel", "opens", "[I", true)
  | 17 => ("FoldListerModel", "shuts", "[I", true)
  | 18 => ("FoldListerModel", "level", "[I", true)
  | 19 => ("FoldListerModel", "parent", "[I", true)
  | 20 => ("FoldListerModel", "depth", "[I", true)
  | 21 => ("FoldListerModel", "isHidden", "[Z", true)
  | 22 => ("FoldListerModel", "regions", "I", false)
  | 23 => ("FoldListerModel", "loose", "I", false)
  | 24 => ("FoldListerModel", "isOpened", "[Z", true)
  | 25 => ("FoldListerModel", "page", "[B", true)
  | 26 => ("FoldListerModel", "pageSize", "I", false)
  | 27 => ("FoldListerModel", "order", "[I", true)
  | _ => ("FoldListerModel", "moved", "[I", true)
def tyX3 : Nat → FieldType := fun k => match k with
  | 0 => .int
  | 1 => .array .int
  | 2 => .array .int
  | 3 => .array .int
  | 4 => .array .int
  | 5 => .array .boolean
  | 6 => .int
  | 7 => .array .byte
  | 8 => .int
  | 9 => .int
  | 10 => .int
  | 11 => .array .int
  | 12 => .array .int
  | 13 => .array .int
  | 14 => .array .int
  | 15 => .array .int
  | 16 => .array .int
  | 17 => .array .int
  | 18 => .array .int
  | 19 => .array .int
  | 20 => .array .int
  | 21 => .array .boolean
  | 22 => .int
  | 23 => .int
  | 24 => .array .boolean
  | 25 => .array .byte
  | 26 => .int
  | 27 => .array .int
  | _ => .array .int
abbrev wsX30 : List Cond := u_ws RX3 TX3 29
set_option maxRecDepth 100000 in
theorem nmX3 : ∀ a, a < 29 → ∀ b, b < 29 → a ≠ b → (TX3 a).2.1 ≠ (TX3 b).2.1 := by decide +kernel
set_option maxRecDepth 100000 in
theorem tyX3_ok : ∀ k, k < 29 → parseFieldDescriptor (TX3 k).2.2.1 = some (tyX3 k) := by decide +kernel
abbrev cX3_thrown : ByteArray := prog_21_method_1_code
def yX3_thrown : MethodName := ⟨RX3, "thrown", "()I"⟩
theorem dX3_thrown_0 : decode cX3_thrown 0 = .ok (.aload_n 0, 1) := by decide +kernel
theorem dX3_thrown_1 : decode cX3_thrown 1 = .ok (.getfield 1, 3) := by decide +kernel
theorem dX3_thrown_4 : decode cX3_thrown 4 = .ok (.ireturn, 1) := by decide +kernel
abbrev cX3_init : ByteArray := prog_21_method_5_code
def yX3_init : MethodName := ⟨RX3, "<init>", "()V"⟩
def dkwX3_init_8 : List UInt8 := [188, 10, 181, 0, 79, 42, 182, 0, 82, 177]
abbrev dktX3_init_8 : List UInt8 := dkwX3_init_8 ++ []
def dkwX3_init_7 : List UInt8 := [181, 0, 70, 42, 17, 42, 248, 188, 8, 181, 0, 73, 42, 16, 80, 188, 10, 181, 0, 76, 42, 17, 8, 112]
abbrev dktX3_init_7 : List UInt8 := dkwX3_init_7 ++ dktX3_init_8
def dkwX3_init_6 : List UInt8 := [181, 0, 61, 42, 16, 82, 188, 10, 181, 0, 64, 42, 16, 82, 188, 4, 181, 0, 67, 42, 16, 82, 188, 4]
abbrev dktX3_init_6 : List UInt8 := dkwX3_init_6 ++ dktX3_init_7
def dkwX3_init_5 : List UInt8 := [17, 3, 192, 188, 10, 181, 0, 55, 42, 17, 3, 192, 188, 10, 181, 0, 58, 42, 17, 3, 192, 188, 10]
abbrev dktX3_init_5 : List UInt8 := dkwX3_init_5 ++ dktX3_init_6
def dkwX3_init_4 : List UInt8 := [181, 0, 46, 42, 17, 3, 192, 188, 10, 181, 0, 49, 42, 17, 3, 192, 188, 10, 181, 0, 52, 42]
abbrev dktX3_init_4 : List UInt8 := dkwX3_init_4 ++ dktX3_init_5
def dkwX3_init_3 : List UInt8 := [17, 7, 128, 188, 10, 181, 0, 40, 42, 17, 7, 128, 188, 10, 181, 0, 43, 42, 17, 3, 192, 188, 10]
abbrev dktX3_init_3 : List UInt8 := dkwX3_init_3 ++ dktX3_init_4
def dkwX3_init_2 : List UInt8 := [42, 17, 2, 188, 188, 8, 181, 0, 30, 42, 2, 181, 0, 34, 42, 17, 7, 128, 188, 10, 181, 0, 37, 42]
abbrev dktX3_init_2 : List UInt8 := dkwX3_init_2 ++ dktX3_init_3
def dkwX3_init_1 : List UInt8 := [17, 68, 152, 188, 10, 181, 0, 20, 42, 17, 17, 38, 188, 10, 181, 0, 23, 42, 5, 188, 4, 181, 0, 26]
abbrev dktX3_init_1 : List UInt8 := dkwX3_init_1 ++ dktX3_init_2
def dkwX3_init_0 : List UInt8 := [42, 183, 0, 7, 42, 17, 8, 147, 188, 10, 181, 0, 13, 42, 17, 8, 147, 188, 10, 181, 0, 17, 42]
abbrev dktX3_init_0 : List UInt8 := dkwX3_init_0 ++ dktX3_init_1
theorem dksX3_init_0 : cX3_init.data.toList.drop 0 = dktX3_init_0 := by decide +kernel
theorem dksX3_init_1 : cX3_init.data.toList.drop 23 = dktX3_init_1 := dk_seg dksX3_init_0 23 rfl rfl
theorem dksX3_init_2 : cX3_init.data.toList.drop 47 = dktX3_init_2 := dk_seg dksX3_init_1 24 rfl rfl
theorem dksX3_init_3 : cX3_init.data.toList.drop 71 = dktX3_init_3 := dk_seg dksX3_init_2 24 rfl rfl
theorem dksX3_init_4 : cX3_init.data.toList.drop 94 = dktX3_init_4 := dk_seg dksX3_init_3 23 rfl rfl
theorem dksX3_init_5 : cX3_init.data.toList.drop 116 = dktX3_init_5 := dk_seg dksX3_init_4 22 rfl rfl
theorem dksX3_init_6 : cX3_init.data.toList.drop 139 = dktX3_init_6 := dk_seg dksX3_init_5 23 rfl rfl
theorem dksX3_init_7 : cX3_init.data.toList.drop 163 = dktX3_init_7 := dk_seg dksX3_init_6 24 rfl rfl
theorem dksX3_init_8 : cX3_init.data.toList.drop 187 = dktX3_init_8 := dk_seg dksX3_init_7 24 rfl rfl
theorem dX3_init_0 : decode cX3_init 0 = .ok (.aload_n 0, 1) := dk_42 (dk_at dksX3_init_0 0 rfl rfl)
theorem dX3_init_1 : decode cX3_init 1 = .ok (.invokespecial 7, 3) := dk_183 0 7 (dk_at dksX3_init_0 1 rfl rfl)
theorem dX3_init_4 : decode cX3_init 4 = .ok (.aload_n 0, 1) := dk_42 (dk_at dksX3_init_0 4 rfl rfl)
theorem dX3_init_5 : decode cX3_init 5 = .ok (.sipush 2195, 3) := dk_17 8 147 (dk_at dksX3_init_0 5 rfl rfl)
theorem dX3_init_8 : decode cX3_init 8 = .ok (.newarray .int, 2) := dk_188_10 (dk_at dksX3_init_0 8 rfl rfl)
theorem dX3_init_10 : decode cX3_init 10 = .ok (.putfield 13, 3) := dk_181 0 13 (dk_at dksX3_init_0 10 rfl rfl)
theorem dX3_init_13 : decode cX3_init 13 = .ok (.aload_n 0, 1) := dk_42 (dk_at dksX3_init_0 13 rfl rfl)
theorem dX3_init_14 : decode cX3_init 14 = .ok (.sipush 2195, 3) := dk_17 8 147 (dk_at dksX3_init_0 14 rfl rfl)
theorem dX3_init_17 : decode cX3_init 17 = .ok (.newarray .int, 2) := dk_188_10 (dk_at dksX3_init_0 17 rfl rfl)
theorem dX3_init_19 : decode cX3_init 19 = .ok (.putfield 17, 3) := dk_181 0 17 (dk_at dksX3_init_0 19 rfl rfl)
theorem dX3_init_22 : decode cX3_init 22 = .ok (.aload_n 0, 1) := dk_42 (dk_at dksX3_init_0 22 rfl rfl)
theorem dX3_init_23 : decode cX3_init 23 = .ok (.sipush 17560, 3) := dk_17 68 152 (dk_at dksX3_init_1 0 rfl rfl)
theorem dX3_init_26 : decode cX3_init 26 = .ok (.newarray .int, 2) := dk_188_10 (dk_at dksX3_init_1 3 rfl rfl)
theorem dX3_init_28 : decode cX3_init 28 = .ok (.putfield 20, 3) := dk_181 0 20 (dk_at dksX3_init_1 5 rfl rfl)
theorem dX3_init_31 : decode cX3_init 31 = .ok (.aload_n 0, 1) := dk_42 (dk_at dksX3_init_1 8 rfl rfl)
theorem dX3_init_32 : decode cX3_init 32 = .ok (.sipush 4390, 3) := dk_17 17 38 (dk_at dksX3_init_1 9 rfl rfl)
theorem dX3_init_35 : decode cX3_init 35 = .ok (.newarray .int, 2) := dk_188_10 (dk_at dksX3_init_1 12 rfl rfl)
theorem dX3_init_37 : decode cX3_init 37 = .ok (.putfield 23, 3) := dk_181 0 23 (dk_at dksX3_init_1 14 rfl rfl)
theorem dX3_init_40 : decode cX3_init 40 = .ok (.aload_n 0, 1) := dk_42 (dk_at dksX3_init_1 17 rfl rfl)
theorem dX3_init_41 : decode cX3_init 41 = .ok (.iconst 2, 1) := dk_5 (dk_at dksX3_init_1 18 rfl rfl)
theorem dX3_init_42 : decode cX3_init 42 = .ok (.newarray .boolean, 2) := dk_188_4 (dk_at dksX3_init_1 19 rfl rfl)
theorem dX3_init_44 : decode cX3_init 44 = .ok (.putfield 26, 3) := dk_181 0 26 (dk_at dksX3_init_1 21 rfl rfl)
theorem dX3_init_47 : decode cX3_init 47 = .ok (.aload_n 0, 1) := dk_42 (dk_at dksX3_init_2 0 rfl rfl)
theorem dX3_init_48 : decode cX3_init 48 = .ok (.sipush 700, 3) := dk_17 2 188 (dk_at dksX3_init_2 1 rfl rfl)
theorem dX3_init_51 : decode cX3_init 51 = .ok (.newarray .byte, 2) := dk_188_8 (dk_at dksX3_init_2 4 rfl rfl)
theorem dX3_init_53 : decode cX3_init 53 = .ok (.putfield 30, 3) := dk_181 0 30 (dk_at dksX3_init_2 6 rfl rfl)
theorem dX3_init_56 : decode cX3_init 56 = .ok (.aload_n 0, 1) := dk_42 (dk_at dksX3_init_2 9 rfl rfl)
theorem dX3_init_57 : decode cX3_init 57 = .ok (.iconst (-1), 1) := dk_2 (dk_at dksX3_init_2 10 rfl rfl)
theorem dX3_init_58 : decode cX3_init 58 = .ok (.putfield 34, 3) := dk_181 0 34 (dk_at dksX3_init_2 11 rfl rfl)
theorem dX3_init_61 : decode cX3_init 61 = .ok (.aload_n 0, 1) := dk_42 (dk_at dksX3_init_2 14 rfl rfl)
theorem dX3_init_62 : decode cX3_init 62 = .ok (.sipush 1920, 3) := dk_17 7 128 (dk_at dksX3_init_2 15 rfl rfl)
theorem dX3_init_65 : decode cX3_init 65 = .ok (.newarray .int, 2) := dk_188_10 (dk_at dksX3_init_2 18 rfl rfl)
theorem dX3_init_67 : decode cX3_init 67 = .ok (.putfield 37, 3) := dk_181 0 37 (dk_at dksX3_init_2 20 rfl rfl)
theorem dX3_init_70 : decode cX3_init 70 = .ok (.aload_n 0, 1) := dk_42 (dk_at dksX3_init_2 23 rfl rfl)
theorem dX3_init_71 : decode cX3_init 71 = .ok (.sipush 1920, 3) := dk_17 7 128 (dk_at dksX3_init_3 0 rfl rfl)
theorem dX3_init_74 : decode cX3_init 74 = .ok (.newarray .int, 2) := dk_188_10 (dk_at dksX3_init_3 3 rfl rfl)
theorem dX3_init_76 : decode cX3_init 76 = .ok (.putfield 40, 3) := dk_181 0 40 (dk_at dksX3_init_3 5 rfl rfl)
theorem dX3_init_79 : decode cX3_init 79 = .ok (.aload_n 0, 1) := dk_42 (dk_at dksX3_init_3 8 rfl rfl)
theorem dX3_init_80 : decode cX3_init 80 = .ok (.sipush 1920, 3) := dk_17 7 128 (dk_at dksX3_init_3 9 rfl rfl)
theorem dX3_init_83 : decode cX3_init 83 = .ok (.newarray .int, 2) := dk_188_10 (dk_at dksX3_init_3 12 rfl rfl)
theorem dX3_init_85 : decode cX3_init 85 = .ok (.putfield 43, 3) := dk_181 0 43 (dk_at dksX3_init_3 14 rfl rfl)
theorem dX3_init_88 : decode cX3_init 88 = .ok (.aload_n 0, 1) := dk_42 (dk_at dksX3_init_3 17 rfl rfl)
theorem dX3_init_89 : decode cX3_init 89 = .ok (.sipush 960, 3) := dk_17 3 192 (dk_at dksX3_init_3 18 rfl rfl)
theorem dX3_init_92 : decode cX3_init 92 = .ok (.newarray .int, 2) := dk_188_10 (dk_at dksX3_init_3 21 rfl rfl)
theorem dX3_init_94 : decode cX3_init 94 = .ok (.putfield 46, 3) := dk_181 0 46 (dk_at dksX3_init_4 0 rfl rfl)
theorem dX3_init_97 : decode cX3_init 97 = .ok (.aload_n 0, 1) := dk_42 (dk_at dksX3_init_4 3 rfl rfl)
theorem dX3_init_98 : decode cX3_init 98 = .ok (.sipush 960, 3) := dk_17 3 192 (dk_at dksX3_init_4 4 rfl rfl)
theorem dX3_init_101 : decode cX3_init 101 = .ok (.newarray .int, 2) := dk_188_10 (dk_at dksX3_init_4 7 rfl rfl)
theorem dX3_init_103 : decode cX3_init 103 = .ok (.putfield 49, 3) := dk_181 0 49 (dk_at dksX3_init_4 9 rfl rfl)
theorem dX3_init_106 : decode cX3_init 106 = .ok (.aload_n 0, 1) := dk_42 (dk_at dksX3_init_4 12 rfl rfl)
theorem dX3_init_107 : decode cX3_init 107 = .ok (.sipush 960, 3) := dk_17 3 192 (dk_at dksX3_init_4 13 rfl rfl)
theorem dX3_init_110 : decode cX3_init 110 = .ok (.newarray .int, 2) := dk_188_10 (dk_at dksX3_init_4 16 rfl rfl)
theorem dX3_init_112 : decode cX3_init 112 = .ok (.putfield 52, 3) := dk_181 0 52 (dk_at dksX3_init_4 18 rfl rfl)
theorem dX3_init_115 : decode cX3_init 115 = .ok (.aload_n 0, 1) := dk_42 (dk_at dksX3_init_4 21 rfl rfl)
theorem dX3_init_116 : decode cX3_init 116 = .ok (.sipush 960, 3) := dk_17 3 192 (dk_at dksX3_init_5 0 rfl rfl)
theorem dX3_init_119 : decode cX3_init 119 = .ok (.newarray .int, 2) := dk_188_10 (dk_at dksX3_init_5 3 rfl rfl)
theorem dX3_init_121 : decode cX3_init 121 = .ok (.putfield 55, 3) := dk_181 0 55 (dk_at dksX3_init_5 5 rfl rfl)
theorem dX3_init_124 : decode cX3_init 124 = .ok (.aload_n 0, 1) := dk_42 (dk_at dksX3_init_5 8 rfl rfl)
theorem dX3_init_125 : decode cX3_init 125 = .ok (.sipush 960, 3) := dk_17 3 192 (dk_at dksX3_init_5 9 rfl rfl)
theorem dX3_init_128 : decode cX3_init 128 = .ok (.newarray .int, 2) := dk_188_10 (dk_at dksX3_init_5 12 rfl rfl)
theorem dX3_init_130 : decode cX3_init 130 = .ok (.putfield 58, 3) := dk_181 0 58 (dk_at dksX3_init_5 14 rfl rfl)
theorem dX3_init_133 : decode cX3_init 133 = .ok (.aload_n 0, 1) := dk_42 (dk_at dksX3_init_5 17 rfl rfl)
theorem dX3_init_134 : decode cX3_init 134 = .ok (.sipush 960, 3) := dk_17 3 192 (dk_at dksX3_init_5 18 rfl rfl)
theorem dX3_init_137 : decode cX3_init 137 = .ok (.newarray .int, 2) := dk_188_10 (dk_at dksX3_init_5 21 rfl rfl)
theorem dX3_init_139 : decode cX3_init 139 = .ok (.putfield 61, 3) := dk_181 0 61 (dk_at dksX3_init_6 0 rfl rfl)
theorem dX3_init_142 : decode cX3_init 142 = .ok (.aload_n 0, 1) := dk_42 (dk_at dksX3_init_6 3 rfl rfl)
theorem dX3_init_143 : decode cX3_init 143 = .ok (.bipush 82, 2) := dk_16 82 (dk_at dksX3_init_6 4 rfl rfl)
theorem dX3_init_145 : decode cX3_init 145 = .ok (.newarray .int, 2) := dk_188_10 (dk_at dksX3_init_6 6 rfl rfl)
theorem dX3_init_147 : decode cX3_init 147 = .ok (.putfield 64, 3) := dk_181 0 64 (dk_at dksX3_init_6 8 rfl rfl)
theorem dX3_init_150 : decode cX3_init 150 = .ok (.aload_n 0, 1) := dk_42 (dk_at dksX3_init_6 11 rfl rfl)
theorem dX3_init_151 : decode cX3_init 151 = .ok (.bipush 82, 2) := dk_16 82 (dk_at dksX3_init_6 12 rfl rfl)
theorem dX3_init_153 : decode cX3_init 153 = .ok (.newarray .boolean, 2) := dk_188_4 (dk_at dksX3_init_6 14 rfl rfl)
theorem dX3_init_155 : decode cX3_init 155 = .ok (.putfield 67, 3) := dk_181 0 67 (dk_at dksX3_init_6 16 rfl rfl)
theorem dX3_init_158 : decode cX3_init 158 = .ok (.aload_n 0, 1) := dk_42 (dk_at dksX3_init_6 19 rfl rfl)
theorem dX3_init_159 : decode cX3_init 159 = .ok (.bipush 82, 2) := dk_16 82 (dk_at dksX3_init_6 20 rfl rfl)
theorem dX3_init_161 : decode cX3_init 161 = .ok (.newarray .boolean, 2) := dk_188_4 (dk_at dksX3_init_6 22 rfl rfl)
theorem dX3_init_163 : decode cX3_init 163 = .ok (.putfield 70, 3) := dk_181 0 70 (dk_at dksX3_init_7 0 rfl rfl)
theorem dX3_init_166 : decode cX3_init 166 = .ok (.aload_n 0, 1) := dk_42 (dk_at dksX3_init_7 3 rfl rfl)
theorem dX3_init_167 : decode cX3_init 167 = .ok (.sipush 11000, 3) := dk_17 42 248 (dk_at dksX3_init_7 4 rfl rfl)
theorem dX3_init_170 : decode cX3_init 170 = .ok (.newarray .byte, 2) := dk_188_8 (dk_at dksX3_init_7 7 rfl rfl)
theorem dX3_init_172 : decode cX3_init 172 = .ok (.putfield 73, 3) := dk_181 0 73 (dk_at dksX3_init_7 9 rfl rfl)
theorem dX3_init_175 : decode cX3_init 175 = .ok (.aload_n 0, 1) := dk_42 (dk_at dksX3_init_7 12 rfl rfl)
theorem dX3_init_176 : decode cX3_init 176 = .ok (.bipush 80, 2) := dk_16 80 (dk_at dksX3_init_7 13 rfl rfl)
theorem dX3_init_178 : decode cX3_init 178 = .ok (.newarray .int, 2) := dk_188_10 (dk_at dksX3_init_7 15 rfl rfl)
theorem dX3_init_180 : decode cX3_init 180 = .ok (.putfield 76, 3) := dk_181 0 76 (dk_at dksX3_init_7 17 rfl rfl)
theorem dX3_init_183 : decode cX3_init 183 = .ok (.aload_n 0, 1) := dk_42 (dk_at dksX3_init_7 20 rfl rfl)
theorem dX3_init_184 : decode cX3_init 184 = .ok (.sipush 2160, 3) := dk_17 8 112 (dk_at dksX3_init_7 21 rfl rfl)
theorem dX3_init_187 : decode cX3_init 187 = .ok (.newarray .int, 2) := dk_188_10 (dk_at dksX3_init_8 0 rfl rfl)
theorem dX3_init_189 : decode cX3_init 189 = .ok (.putfield 79, 3) := dk_181 0 79 (dk_at dksX3_init_8 2 rfl rfl)
theorem dX3_init_192 : decode cX3_init 192 = .ok (.aload_n 0, 1) := dk_42 (dk_at dksX3_init_8 5 rfl rfl)
theorem dX3_init_193 : decode cX3_init 193 = .ok (.invokevirtual 82, 3) := dk_182 0 82 (dk_at dksX3_init_8 6 rfl rfl)
theorem dX3_init_196 : decode cX3_init 196 = .ok (.return_, 1) := dk_177 (dk_at dksX3_init_8 9 rfl rfl)
abbrev cX3_clears : ByteArray := prog_21_method_7_code
def yX3_clears : MethodName := ⟨RX3, "clears", "()V"⟩
def dkwX3_clears_2 : List UInt8 := [132, 1, 1, 167, 255, 238, 177]
abbrev dktX3_clears_2 : List UInt8 := dkwX3_clears_2 ++ []
def dkwX3_clears_1 : List UInt8 := [180, 0, 13, 5, 2, 79, 3, 60, 27, 16, 10, 162, 0, 18, 42, 180, 0, 13, 8, 27, 96, 2, 79]
abbrev dktX3_clears_1 : List UInt8 := dkwX3_clears_1 ++ dktX3_clears_2
def dkwX3_clears_0 : List UInt8 := [3, 60, 27, 17, 8, 147, 162, 0, 16, 42, 180, 0, 13, 27, 3, 79, 132, 1, 1, 167, 255, 239, 42]
abbrev dktX3_clears_0 : List UInt8 := dkwX3_clears_0 ++ dktX3_clears_1
theorem dksX3_clears_0 : cX3_clears.data.toList.drop 0 = dktX3_clears_0 := by decide +kernel
theorem dksX3_clears_1 : cX3_clears.data.toList.drop 23 = dktX3_clears_1 := dk_seg dksX3_clears_0 23 rfl rfl
theorem dksX3_clears_2 : cX3_clears.data.toList.drop 46 = dktX3_clears_2 := dk_seg dksX3_clears_1 23 rfl rfl
theorem dX3_clears_0 : decode cX3_clears 0 = .ok (.iconst 0, 1) := dk_3 (dk_at dksX3_clears_0 0 rfl rfl)
theorem dX3_clears_1 : decode cX3_clears 1 = .ok (.istore_n 1, 1) := dk_60 (dk_at dksX3_clears_0 1 rfl rfl)
theorem dX3_clears_2 : decode cX3_clears 2 = .ok (.iload_n 1, 1) := dk_27 (dk_at dksX3_clears_0 2 rfl rfl)
theorem dX3_clears_3 : decode cX3_clears 3 = .ok (.sipush 2195, 3) := dk_17 8 147 (dk_at dksX3_clears_0 3 rfl rfl)
theorem dX3_clears_6 : decode cX3_clears 6 = .ok (.if_icmp .ge 16, 3) := dk_162 0 16 (dk_at dksX3_clears_0 6 rfl rfl)
theorem dX3_clears_9 : decode cX3_clears 9 = .ok (.aload_n 0, 1) := dk_42 (dk_at dksX3_clears_0 9 rfl rfl)
theorem dX3_clears_10 : decode cX3_clears 10 = .ok (.getfield 13, 3) := dk_180 0 13 (dk_at dksX3_clears_0 10 rfl rfl)
theorem dX3_clears_13 : decode cX3_clears 13 = .ok (.iload_n 1, 1) := dk_27 (dk_at dksX3_clears_0 13 rfl rfl)
theorem dX3_clears_14 : decode cX3_clears 14 = .ok (.iconst 0, 1) := dk_3 (dk_at dksX3_clears_0 14 rfl rfl)
theorem dX3_clears_15 : decode cX3_clears 15 = .ok (.iastore, 1) := dk_79 (dk_at dksX3_clears_0 15 rfl rfl)
theorem dX3_clears_16 : decode cX3_clears 16 = .ok (.iinc 1 1, 3) := dk_132 1 1 (dk_at dksX3_clears_0 16 rfl rfl)
theorem dX3_clears_19 : decode cX3_clears 19 = .ok (.goto (-17), 3) := dk_167 255 239 (dk_at dksX3_clears_0 19 rfl rfl)
theorem dX3_clears_22 : decode cX3_clears 22 = .ok (.aload_n 0, 1) := dk_42 (dk_at dksX3_clears_0 22 rfl rfl)
theorem dX3_clears_23 : decode cX3_clears 23 = .ok (.getfield 13, 3) := dk_180 0 13 (dk_at dksX3_clears_1 0 rfl rfl)
theorem dX3_clears_26 : decode cX3_clears 26 = .ok (.iconst 2, 1) := dk_5 (dk_at dksX3_clears_1 3 rfl rfl)
theorem dX3_clears_27 : decode cX3_clears 27 = .ok (.iconst (-1), 1) := dk_2 (dk_at dksX3_clears_1 4 rfl rfl)
theorem dX3_clears_28 : decode cX3_clears 28 = .ok (.iastore, 1) := dk_79 (dk_at dksX3_clears_1 5 rfl rfl)
theorem dX3_clears_29 : decode cX3_clears 29 = .ok (.iconst 0, 1) := dk_3 (dk_at dksX3_clears_1 6 rfl rfl)
theorem dX3_clears_30 : decode cX3_clears 30 = .ok (.istore_n 1, 1) := dk_60 (dk_at dksX3_clears_1 7 rfl rfl)
theorem dX3_clears_31 : decode cX3_clears 31 = .ok (.iload_n 1, 1) := dk_27 (dk_at dksX3_clears_1 8 rfl rfl)
theorem dX3_clears_32 : decode cX3_clears 32 = .ok (.bipush 10, 2) := dk_16 10 (dk_at dksX3_clears_1 9 rfl rfl)
theorem dX3_clears_34 : decode cX3_clears 34 = .ok (.if_icmp .ge 18, 3) := dk_162 0 18 (dk_at dksX3_clears_1 11 rfl rfl)
theorem dX3_clears_37 : decode cX3_clears 37 = .ok (.aload_n 0, 1) := dk_42 (dk_at dksX3_clears_1 14 rfl rfl)
theorem dX3_clears_38 : decode cX3_clears 38 = .ok (.getfield 13, 3) := dk_180 0 13 (dk_at dksX3_clears_1 15 rfl rfl)
theorem dX3_clears_41 : decode cX3_clears 41 = .ok (.iconst 5, 1) := dk_8 (dk_at dksX3_clears_1 18 rfl rfl)
theorem dX3_clears_42 : decode cX3_clears 42 = .ok (.iload_n 1, 1) := dk_27 (dk_at dksX3_clears_1 19 rfl rfl)
theorem dX3_clears_43 : decode cX3_clears 43 = .ok (.iadd, 1) := dk_96 (dk_at dksX3_clears_1 20 rfl rfl)
theorem dX3_clears_44 : decode cX3_clears 44 = .ok (.iconst (-1), 1) := dk_2 (dk_at dksX3_clears_1 21 rfl rfl)
theorem dX3_clears_45 : decode cX3_clears 45 = .ok (.iastore, 1) := dk_79 (dk_at dksX3_clears_1 22 rfl rfl)
theorem dX3_clears_46 : decode cX3_clears 46 = .ok (.iinc 1 1, 3) := dk_132 1 1 (dk_at dksX3_clears_2 0 rfl rfl)
theorem dX3_clears_49 : decode cX3_clears 49 = .ok (.goto (-18), 3) := dk_167 255 238 (dk_at dksX3_clears_2 3 rfl rfl)
theorem dX3_clears_52 : decode cX3_clears 52 = .ok (.return_, 1) := dk_177 (dk_at dksX3_clears_2 6 rfl rfl)
abbrev cX3_append : ByteArray := prog_21_method_8_code
def yX3_append : MethodName := ⟨RX3, "append", "(IIIII)I"⟩
def dkwX3_append_2 : List UInt8 := [172]
abbrev dktX3_append_2 : List UInt8 := dkwX3_append_2 ++ []
def dkwX3_append_1 : List UInt8 := [182, 0, 88, 42, 29, 182, 0, 88, 42, 21, 4, 182, 0, 88, 42, 21, 5, 182, 0, 88, 42, 180, 0, 85]
abbrev dktX3_append_1 : List UInt8 := dkwX3_append_1 ++ dktX3_append_2
def dkwX3_append_0 : List UInt8 := [42, 3, 181, 0, 1, 42, 180, 0, 85, 17, 2, 168, 164, 0, 5, 2, 172, 42, 27, 182, 0, 88, 42, 28]
abbrev dktX3_append_0 : List UInt8 := dkwX3_append_0 ++ dktX3_append_1
theorem dksX3_append_0 : cX3_append.data.toList.drop 0 = dktX3_append_0 := by decide +kernel
theorem dksX3_append_1 : cX3_append.data.toList.drop 24 = dktX3_append_1 := dk_seg dksX3_append_0 24 rfl rfl
theorem dksX3_append_2 : cX3_append.data.toList.drop 48 = dktX3_append_2 := dk_seg dksX3_append_1 24 rfl rfl
theorem dX3_append_0 : decode cX3_append 0 = .ok (.aload_n 0, 1) := dk_42 (dk_at dksX3_append_0 0 rfl rfl)
theorem dX3_append_1 : decode cX3_append 1 = .ok (.iconst 0, 1) := dk_3 (dk_at dksX3_append_0 1 rfl rfl)
theorem dX3_append_2 : decode cX3_append 2 = .ok (.putfield 1, 3) := dk_181 0 1 (dk_at dksX3_append_0 2 rfl rfl)
theorem dX3_append_5 : decode cX3_append 5 = .ok (.aload_n 0, 1) := dk_42 (dk_at dksX3_append_0 5 rfl rfl)
theorem dX3_append_6 : decode cX3_append 6 = .ok (.getfield 85, 3) := dk_180 0 85 (dk_at dksX3_append_0 6 rfl rfl)
theorem dX3_append_9 : decode cX3_append 9 = .ok (.sipush 680, 3) := dk_17 2 168 (dk_at dksX3_append_0 9 rfl rfl)
theorem dX3_append_12 : decode cX3_append 12 = .ok (.if_icmp .le 5, 3) := dk_164 0 5 (dk_at dksX3_append_0 12 rfl rfl)
theorem dX3_append_15 : decode cX3_append 15 = .ok (.iconst (-1), 1) := dk_2 (dk_at dksX3_append_0 15 rfl rfl)
theorem dX3_append_16 : decode cX3_append 16 = .ok (.ireturn, 1) := dk_172 (dk_at dksX3_append_0 16 rfl rfl)
theorem dX3_append_17 : decode cX3_append 17 = .ok (.aload_n 0, 1) := dk_42 (dk_at dksX3_append_0 17 rfl rfl)
theorem dX3_append_18 : decode cX3_append 18 = .ok (.iload_n 1, 1) := dk_27 (dk_at dksX3_append_0 18 rfl rfl)
theorem dX3_append_19 : decode cX3_append 19 = .ok (.invokevirtual 88, 3) := dk_182 0 88 (dk_at dksX3_append_0 19 rfl rfl)
theorem dX3_append_22 : decode cX3_append 22 = .ok (.aload_n 0, 1) := dk_42 (dk_at dksX3_append_0 22 rfl rfl)
theorem dX3_append_23 : decode cX3_append 23 = .ok (.iload_n 2, 1) := dk_28 (dk_at dksX3_append_0 23 rfl rfl)
theorem dX3_append_24 : decode cX3_append 24 = .ok (.invokevirtual 88, 3) := dk_182 0 88 (dk_at dksX3_append_1 0 rfl rfl)
theorem dX3_append_27 : decode cX3_append 27 = .ok (.aload_n 0, 1) := dk_42 (dk_at dksX3_append_1 3 rfl rfl)
theorem dX3_append_28 : decode cX3_append 28 = .ok (.iload_n 3, 1) := dk_29 (dk_at dksX3_append_1 4 rfl rfl)
theorem dX3_append_29 : decode cX3_append 29 = .ok (.invokevirtual 88, 3) := dk_182 0 88 (dk_at dksX3_append_1 5 rfl rfl)
theorem dX3_append_32 : decode cX3_append 32 = .ok (.aload_n 0, 1) := dk_42 (dk_at dksX3_append_1 8 rfl rfl)
theorem dX3_append_33 : decode cX3_append 33 = .ok (.iload 4, 2) := dk_21 4 (dk_at dksX3_append_1 9 rfl rfl)
theorem dX3_append_35 : decode cX3_append 35 = .ok (.invokevirtual 88, 3) := dk_182 0 88 (dk_at dksX3_append_1 11 rfl rfl)
theorem dX3_append_38 : decode cX3_append 38 = .ok (.aload_n 0, 1) := dk_42 (dk_at dksX3_append_1 14 rfl rfl)
theorem dX3_append_39 : decode cX3_append 39 = .ok (.iload 5, 2) := dk_21 5 (dk_at dksX3_append_1 15 rfl rfl)
theorem dX3_append_41 : decode cX3_append 41 = .ok (.invokevirtual 88, 3) := dk_182 0 88 (dk_at dksX3_append_1 17 rfl rfl)
theorem dX3_append_44 : decode cX3_append 44 = .ok (.aload_n 0, 1) := dk_42 (dk_at dksX3_append_1 20 rfl rfl)
theorem dX3_append_45 : decode cX3_append 45 = .ok (.getfield 85, 3) := dk_180 0 85 (dk_at dksX3_append_1 21 rfl rfl)
theorem dX3_append_48 : decode cX3_append 48 = .ok (.ireturn, 1) := dk_172 (dk_at dksX3_append_2 0 rfl rfl)
abbrev cX3_four : ByteArray := prog_21_method_9_code
def yX3_four : MethodName := ⟨RX3, "four", "(I)V"⟩
def dkwX3_four_1 : List UInt8 := [180, 0, 85, 4, 96, 181, 0, 85, 132, 2, 255, 167, 255, 223, 177]
abbrev dktX3_four_1 : List UInt8 := dkwX3_four_1 ++ []
def dkwX3_four_0 : List UInt8 := [6, 61, 28, 155, 0, 35, 42, 180, 0, 30, 42, 180, 0, 85, 27, 16, 8, 28, 104, 122, 145, 84, 42, 89]
abbrev dktX3_four_0 : List UInt8 := dkwX3_four_0 ++ dktX3_four_1
theorem dksX3_four_0 : cX3_four.data.toList.drop 0 = dktX3_four_0 := by decide +kernel
theorem dksX3_four_1 : cX3_four.data.toList.drop 24 = dktX3_four_1 := dk_seg dksX3_four_0 24 rfl rfl
theorem dX3_four_0 : decode cX3_four 0 = .ok (.iconst 3, 1) := dk_6 (dk_at dksX3_four_0 0 rfl rfl)
theorem dX3_four_1 : decode cX3_four 1 = .ok (.istore_n 2, 1) := dk_61 (dk_at dksX3_four_0 1 rfl rfl)
theorem dX3_four_2 : decode cX3_four 2 = .ok (.iload_n 2, 1) := dk_28 (dk_at dksX3_four_0 2 rfl rfl)
theorem dX3_four_3 : decode cX3_four 3 = .ok (.ifCond .lt 35, 3) := dk_155 0 35 (dk_at dksX3_four_0 3 rfl rfl)
theorem dX3_four_6 : decode cX3_four 6 = .ok (.aload_n 0, 1) := dk_42 (dk_at dksX3_four_0 6 rfl rfl)
theorem dX3_four_7 : decode cX3_four 7 = .ok (.getfield 30, 3) := dk_180 0 30 (dk_at dksX3_four_0 7 rfl rfl)
theorem dX3_four_10 : decode cX3_four 10 = .ok (.aload_n 0, 1) := dk_42 (dk_at dksX3_four_0 10 rfl rfl)
theorem dX3_four_11 : decode cX3_four 11 = .ok (.getfield 85, 3) := dk_180 0 85 (dk_at dksX3_four_0 11 rfl rfl)
theorem dX3_four_14 : decode cX3_four 14 = .ok (.iload_n 1, 1) := dk_27 (dk_at dksX3_four_0 14 rfl rfl)
theorem dX3_four_15 : decode cX3_four 15 = .ok (.bipush 8, 2) := dk_16 8 (dk_at dksX3_four_0 15 rfl rfl)
theorem dX3_four_17 : decode cX3_four 17 = .ok (.iload_n 2, 1) := dk_28 (dk_at dksX3_four_0 17 rfl rfl)
theorem dX3_four_18 : decode cX3_four 18 = .ok (.imul, 1) := dk_104 (dk_at dksX3_four_0 18 rfl rfl)
theorem dX3_four_19 : decode cX3_four 19 = .ok (.ishr, 1) := dk_122 (dk_at dksX3_four_0 19 rfl rfl)
theorem dX3_four_20 : decode cX3_four 20 = .ok (.i2b, 1) := dk_145 (dk_at dksX3_four_0 20 rfl rfl)
theorem dX3_four_21 : decode cX3_four 21 = .ok (.bastore, 1) := dk_84 (dk_at dksX3_four_0 21 rfl rfl)
theorem dX3_four_22 : decode cX3_four 22 = .ok (.aload_n 0, 1) := dk_42 (dk_at dksX3_four_0 22 rfl rfl)
theorem dX3_four_23 : decode cX3_four 23 = .ok (.dup, 1) := dk_89 (dk_at dksX3_four_0 23 rfl rfl)
theorem dX3_four_24 : decode cX3_four 24 = .ok (.getfield 85, 3) := dk_180 0 85 (dk_at dksX3_four_1 0 rfl rfl)
theorem dX3_four_27 : decode cX3_four 27 = .ok (.iconst 1, 1) := dk_4 (dk_at dksX3_four_1 3 rfl rfl)
theorem dX3_four_28 : decode cX3_four 28 = .ok (.iadd, 1) := dk_96 (dk_at dksX3_four_1 4 rfl rfl)
theorem dX3_four_29 : decode cX3_four 29 = .ok (.putfield 85, 3) := dk_181 0 85 (dk_at dksX3_four_1 5 rfl rfl)
theorem dX3_four_32 : decode cX3_four 32 = .ok (.iinc 2 (-1), 3) := dk_132 2 255 (dk_at dksX3_four_1 8 rfl rfl)
theorem dX3_four_35 : decode cX3_four 35 = .ok (.goto (-33), 3) := dk_167 255 223 (dk_at dksX3_four_1 11 rfl rfl)
theorem dX3_four_38 : decode cX3_four 38 = .ok (.return_, 1) := dk_177 (dk_at dksX3_four_1 14 rfl rfl)
abbrev cX3_parseError : ByteArray := prog_21_method_10_code
def yX3_parseError : MethodName := ⟨RX3, "parseError", "()I"⟩
def dkwX3_parseError_0 : List UInt8 := [42, 3, 181, 0, 1, 42, 180, 0, 92, 172]
abbrev dktX3_parseError_0 : List UInt8 := dkwX3_parseError_0 ++ []
theorem dksX3_parseError_0 : cX3_parseError.data.toList.drop 0 = dktX3_parseError_0 := by decide +kernel
theorem dX3_parseError_0 : decode cX3_parseError 0 = .ok (.aload_n 0, 1) := dk_42 (dk_at dksX3_parseError_0 0 rfl rfl)
theorem dX3_parseError_1 : decode cX3_parseError 1 = .ok (.iconst 0, 1) := dk_3 (dk_at dksX3_parseError_0 1 rfl rfl)
theorem dX3_parseError_2 : decode cX3_parseError 2 = .ok (.putfield 1, 3) := dk_181 0 1 (dk_at dksX3_parseError_0 2 rfl rfl)
theorem dX3_parseError_5 : decode cX3_parseError 5 = .ok (.aload_n 0, 1) := dk_42 (dk_at dksX3_parseError_0 5 rfl rfl)
theorem dX3_parseError_6 : decode cX3_parseError 6 = .ok (.getfield 92, 3) := dk_180 0 92 (dk_at dksX3_parseError_0 6 rfl rfl)
theorem dX3_parseError_9 : decode cX3_parseError 9 = .ok (.ireturn, 1) := dk_172 (dk_at dksX3_parseError_0 9 rfl rfl)
abbrev cX3_errorPosition : ByteArray := prog_21_method_11_code
def yX3_errorPosition : MethodName := ⟨RX3, "errorPosition", "()I"⟩
def dkwX3_errorPosition_0 : List UInt8 := [42, 3, 181, 0, 1, 42, 180, 0, 34, 172]
abbrev dktX3_errorPosition_0 : List UInt8 := dkwX3_errorPosition_0 ++ []
theorem dksX3_errorPosition_0 : cX3_errorPosition.data.toList.drop 0 = dktX3_errorPosition_0 := by decide +kernel
theorem dX3_errorPosition_0 : decode cX3_errorPosition 0 = .ok (.aload_n 0, 1) := dk_42 (dk_at dksX3_errorPosition_0 0 rfl rfl)
theorem dX3_errorPosition_1 : decode cX3_errorPosition 1 = .ok (.iconst 0, 1) := dk_3 (dk_at dksX3_errorPosition_0 1 rfl rfl)
theorem dX3_errorPosition_2 : decode cX3_errorPosition 2 = .ok (.putfield 1, 3) := dk_181 0 1 (dk_at dksX3_errorPosition_0 2 rfl rfl)
theorem dX3_errorPosition_5 : decode cX3_errorPosition 5 = .ok (.aload_n 0, 1) := dk_42 (dk_at dksX3_errorPosition_0 5 rfl rfl)
theorem dX3_errorPosition_6 : decode cX3_errorPosition 6 = .ok (.getfield 34, 3) := dk_180 0 34 (dk_at dksX3_errorPosition_0 6 rfl rfl)
theorem dX3_errorPosition_9 : decode cX3_errorPosition 9 = .ok (.ireturn, 1) := dk_172 (dk_at dksX3_errorPosition_0 9 rfl rfl)
abbrev cX3_buffered : ByteArray := prog_21_method_12_code
def yX3_buffered : MethodName := ⟨RX3, "buffered", "()I"⟩
def dkwX3_buffered_0 : List UInt8 := [42, 3, 181, 0, 1, 42, 180, 0, 85, 172]
abbrev dktX3_buffered_0 : List UInt8 := dkwX3_buffered_0 ++ []
theorem dksX3_buffered_0 : cX3_buffered.data.toList.drop 0 = dktX3_buffered_0 := by decide +kernel
theorem dX3_buffered_0 : decode cX3_buffered 0 = .ok (.aload_n 0, 1) := dk_42 (dk_at dksX3_buffered_0 0 rfl rfl)
theorem dX3_buffered_1 : decode cX3_buffered 1 = .ok (.iconst 0, 1) := dk_3 (dk_at dksX3_buffered_0 1 rfl rfl)
theorem dX3_buffered_2 : decode cX3_buffered 2 = .ok (.putfield 1, 3) := dk_181 0 1 (dk_at dksX3_buffered_0 2 rfl rfl)
theorem dX3_buffered_5 : decode cX3_buffered 5 = .ok (.aload_n 0, 1) := dk_42 (dk_at dksX3_buffered_0 5 rfl rfl)
theorem dX3_buffered_6 : decode cX3_buffered 6 = .ok (.getfield 85, 3) := dk_180 0 85 (dk_at dksX3_buffered_0 6 rfl rfl)
theorem dX3_buffered_9 : decode cX3_buffered 9 = .ok (.ireturn, 1) := dk_172 (dk_at dksX3_buffered_0 9 rfl rfl)
abbrev cX3_load : ByteArray := prog_21_method_17_code
def yX3_load : MethodName := ⟨RX3, "load", "(I)I"⟩
def dkwX3_load_4 : List UInt8 := [180, 0, 26, 4, 3, 84, 42, 180, 0, 13, 3, 46, 172]
abbrev dktX3_load_4 : List UInt8 := dkwX3_load_4 ++ []
def dkwX3_load_3 : List UInt8 := [3, 184, 0, 115, 42, 5, 181, 0, 1, 3, 172, 42, 3, 181, 0, 122, 42, 180, 0, 26, 3, 3, 84, 42]
abbrev dktX3_load_3 : List UInt8 := dkwX3_load_3 ++ dktX3_load_4
def dkwX3_load_2 : List UInt8 := [182, 0, 82, 42, 27, 182, 0, 119, 42, 180, 0, 92, 158, 0, 23, 42, 180, 0, 17, 3, 42, 180, 0, 13]
abbrev dktX3_load_2 : List UInt8 := dkwX3_load_2 ++ dktX3_load_3
def dkwX3_load_1 : List UInt8 := [3, 181, 0, 92, 42, 2, 181, 0, 34, 42, 180, 0, 13, 3, 42, 180, 0, 17, 3, 184, 0, 115, 42]
abbrev dktX3_load_1 : List UInt8 := dkwX3_load_1 ++ dktX3_load_2
def dkwX3_load_0 : List UInt8 := [42, 27, 3, 42, 180, 0, 85, 184, 0, 95, 182, 0, 111, 154, 0, 5, 3, 172, 42, 3, 181, 0, 85, 42]
abbrev dktX3_load_0 : List UInt8 := dkwX3_load_0 ++ dktX3_load_1
theorem dksX3_load_0 : cX3_load.data.toList.drop 0 = dktX3_load_0 := by decide +kernel
theorem dksX3_load_1 : cX3_load.data.toList.drop 24 = dktX3_load_1 := dk_seg dksX3_load_0 24 rfl rfl
theorem dksX3_load_2 : cX3_load.data.toList.drop 47 = dktX3_load_2 := dk_seg dksX3_load_1 23 rfl rfl
theorem dksX3_load_3 : cX3_load.data.toList.drop 71 = dktX3_load_3 := dk_seg dksX3_load_2 24 rfl rfl
theorem dksX3_load_4 : cX3_load.data.toList.drop 95 = dktX3_load_4 := dk_seg dksX3_load_3 24 rfl rfl
theorem dX3_load_0 : decode cX3_load 0 = .ok (.aload_n 0, 1) := dk_42 (dk_at dksX3_load_0 0 rfl rfl)
theorem dX3_load_1 : decode cX3_load 1 = .ok (.iload_n 1, 1) := dk_27 (dk_at dksX3_load_0 1 rfl rfl)
theorem dX3_load_2 : decode cX3_load 2 = .ok (.iconst 0, 1) := dk_3 (dk_at dksX3_load_0 2 rfl rfl)
theorem dX3_load_3 : decode cX3_load 3 = .ok (.aload_n 0, 1) := dk_42 (dk_at dksX3_load_0 3 rfl rfl)
theorem dX3_load_4 : decode cX3_load 4 = .ok (.getfield 85, 3) := dk_180 0 85 (dk_at dksX3_load_0 4 rfl rfl)
theorem dX3_load_7 : decode cX3_load 7 = .ok (.invokestatic 95, 3) := dk_184 0 95 (dk_at dksX3_load_0 7 rfl rfl)
theorem dX3_load_10 : decode cX3_load 10 = .ok (.invokevirtual 111, 3) := dk_182 0 111 (dk_at dksX3_load_0 10 rfl rfl)
theorem dX3_load_13 : decode cX3_load 13 = .ok (.ifCond .ne 5, 3) := dk_154 0 5 (dk_at dksX3_load_0 13 rfl rfl)
theorem dX3_load_16 : decode cX3_load 16 = .ok (.iconst 0, 1) := dk_3 (dk_at dksX3_load_0 16 rfl rfl)
theorem dX3_load_17 : decode cX3_load 17 = .ok (.ireturn, 1) := dk_172 (dk_at dksX3_load_0 17 rfl rfl)
theorem dX3_load_18 : decode cX3_load 18 = .ok (.aload_n 0, 1) := dk_42 (dk_at dksX3_load_0 18 rfl rfl)
theorem dX3_load_19 : decode cX3_load 19 = .ok (.iconst 0, 1) := dk_3 (dk_at dksX3_load_0 19 rfl rfl)
theorem dX3_load_20 : decode cX3_load 20 = .ok (.putfield 85, 3) := dk_181 0 85 (dk_at dksX3_load_0 20 rfl rfl)
theorem dX3_load_23 : decode cX3_load 23 = .ok (.aload_n 0, 1) := dk_42 (dk_at dksX3_load_0 23 rfl rfl)
theorem dX3_load_24 : decode cX3_load 24 = .ok (.iconst 0, 1) := dk_3 (dk_at dksX3_load_1 0 rfl rfl)
theorem dX3_load_25 : decode cX3_load 25 = .ok (.putfield 92, 3) := dk_181 0 92 (dk_at dksX3_load_1 1 rfl rfl)
theorem dX3_load_28 : decode cX3_load 28 = .ok (.aload_n 0, 1) := dk_42 (dk_at dksX3_load_1 4 rfl rfl)
theorem dX3_load_29 : decode cX3_load 29 = .ok (.iconst (-1), 1) := dk_2 (dk_at dksX3_load_1 5 rfl rfl)
theorem dX3_load_30 : decode cX3_load 30 = .ok (.putfield 34, 3) := dk_181 0 34 (dk_at dksX3_load_1 6 rfl rfl)
theorem dX3_load_33 : decode cX3_load 33 = .ok (.aload_n 0, 1) := dk_42 (dk_at dksX3_load_1 9 rfl rfl)
theorem dX3_load_34 : decode cX3_load 34 = .ok (.getfield 13, 3) := dk_180 0 13 (dk_at dksX3_load_1 10 rfl rfl)
theorem dX3_load_37 : decode cX3_load 37 = .ok (.iconst 0, 1) := dk_3 (dk_at dksX3_load_1 13 rfl rfl)
theorem dX3_load_38 : decode cX3_load 38 = .ok (.aload_n 0, 1) := dk_42 (dk_at dksX3_load_1 14 rfl rfl)
theorem dX3_load_39 : decode cX3_load 39 = .ok (.getfield 17, 3) := dk_180 0 17 (dk_at dksX3_load_1 15 rfl rfl)
theorem dX3_load_42 : decode cX3_load 42 = .ok (.iconst 0, 1) := dk_3 (dk_at dksX3_load_1 18 rfl rfl)
theorem dX3_load_43 : decode cX3_load 43 = .ok (.invokestatic 115, 3) := dk_184 0 115 (dk_at dksX3_load_1 19 rfl rfl)
theorem dX3_load_46 : decode cX3_load 46 = .ok (.aload_n 0, 1) := dk_42 (dk_at dksX3_load_1 22 rfl rfl)
theorem dX3_load_47 : decode cX3_load 47 = .ok (.invokevirtual 82, 3) := dk_182 0 82 (dk_at dksX3_load_2 0 rfl rfl)
theorem dX3_load_50 : decode cX3_load 50 = .ok (.aload_n 0, 1) := dk_42 (dk_at dksX3_load_2 3 rfl rfl)
theorem dX3_load_51 : decode cX3_load 51 = .ok (.iload_n 1, 1) := dk_27 (dk_at dksX3_load_2 4 rfl rfl)
theorem dX3_load_52 : decode cX3_load 52 = .ok (.invokevirtual 119, 3) := dk_182 0 119 (dk_at dksX3_load_2 5 rfl rfl)
theorem dX3_load_55 : decode cX3_load 55 = .ok (.aload_n 0, 1) := dk_42 (dk_at dksX3_load_2 8 rfl rfl)
theorem dX3_load_56 : decode cX3_load 56 = .ok (.getfield 92, 3) := dk_180 0 92 (dk_at dksX3_load_2 9 rfl rfl)
theorem dX3_load_59 : decode cX3_load 59 = .ok (.ifCond .le 23, 3) := dk_158 0 23 (dk_at dksX3_load_2 12 rfl rfl)
theorem dX3_load_62 : decode cX3_load 62 = .ok (.aload_n 0, 1) := dk_42 (dk_at dksX3_load_2 15 rfl rfl)
theorem dX3_load_63 : decode cX3_load 63 = .ok (.getfield 17, 3) := dk_180 0 17 (dk_at dksX3_load_2 16 rfl rfl)
theorem dX3_load_66 : decode cX3_load 66 = .ok (.iconst 0, 1) := dk_3 (dk_at dksX3_load_2 19 rfl rfl)
theorem dX3_load_67 : decode cX3_load 67 = .ok (.aload_n 0, 1) := dk_42 (dk_at dksX3_load_2 20 rfl rfl)
theorem dX3_load_68 : decode cX3_load 68 = .ok (.getfield 13, 3) := dk_180 0 13 (dk_at dksX3_load_2 21 rfl rfl)
theorem dX3_load_71 : decode cX3_load 71 = .ok (.iconst 0, 1) := dk_3 (dk_at dksX3_load_3 0 rfl rfl)
theorem dX3_load_72 : decode cX3_load 72 = .ok (.invokestatic 115, 3) := dk_184 0 115 (dk_at dksX3_load_3 1 rfl rfl)
theorem dX3_load_75 : decode cX3_load 75 = .ok (.aload_n 0, 1) := dk_42 (dk_at dksX3_load_3 4 rfl rfl)
theorem dX3_load_76 : decode cX3_load 76 = .ok (.iconst 2, 1) := dk_5 (dk_at dksX3_load_3 5 rfl rfl)
theorem dX3_load_77 : decode cX3_load 77 = .ok (.putfield 1, 3) := dk_181 0 1 (dk_at dksX3_load_3 6 rfl rfl)
theorem dX3_load_80 : decode cX3_load 80 = .ok (.iconst 0, 1) := dk_3 (dk_at dksX3_load_3 9 rfl rfl)
theorem dX3_load_81 : decode cX3_load 81 = .ok (.ireturn, 1) := dk_172 (dk_at dksX3_load_3 10 rfl rfl)
theorem dX3_load_82 : decode cX3_load 82 = .ok (.aload_n 0, 1) := dk_42 (dk_at dksX3_load_3 11 rfl rfl)
theorem dX3_load_83 : decode cX3_load 83 = .ok (.iconst 0, 1) := dk_3 (dk_at dksX3_load_3 12 rfl rfl)
theorem dX3_load_84 : decode cX3_load 84 = .ok (.putfield 122, 3) := dk_181 0 122 (dk_at dksX3_load_3 13 rfl rfl)
theorem dX3_load_87 : decode cX3_load 87 = .ok (.aload_n 0, 1) := dk_42 (dk_at dksX3_load_3 16 rfl rfl)
theorem dX3_load_88 : decode cX3_load 88 = .ok (.getfield 26, 3) := dk_180 0 26 (dk_at dksX3_load_3 17 rfl rfl)
theorem dX3_load_91 : decode cX3_load 91 = .ok (.iconst 0, 1) := dk_3 (dk_at dksX3_load_3 20 rfl rfl)
theorem dX3_load_92 : decode cX3_load 92 = .ok (.iconst 0, 1) := dk_3 (dk_at dksX3_load_3 21 rfl rfl)
theorem dX3_load_93 : decode cX3_load 93 = .ok (.bastore, 1) := dk_84 (dk_at dksX3_load_3 22 rfl rfl)
theorem dX3_load_94 : decode cX3_load 94 = .ok (.aload_n 0, 1) := dk_42 (dk_at dksX3_load_3 23 rfl rfl)
theorem dX3_load_95 : decode cX3_load 95 = .ok (.getfield 26, 3) := dk_180 0 26 (dk_at dksX3_load_4 0 rfl rfl)
theorem dX3_load_98 : decode cX3_load 98 = .ok (.iconst 1, 1) := dk_4 (dk_at dksX3_load_4 3 rfl rfl)
theorem dX3_load_99 : decode cX3_load 99 = .ok (.iconst 0, 1) := dk_3 (dk_at dksX3_load_4 4 rfl rfl)
theorem dX3_load_100 : decode cX3_load 100 = .ok (.bastore, 1) := dk_84 (dk_at dksX3_load_4 5 rfl rfl)
theorem dX3_load_101 : decode cX3_load 101 = .ok (.aload_n 0, 1) := dk_42 (dk_at dksX3_load_4 6 rfl rfl)
theorem dX3_load_102 : decode cX3_load 102 = .ok (.getfield 13, 3) := dk_180 0 13 (dk_at dksX3_load_4 7 rfl rfl)
theorem dX3_load_105 : decode cX3_load 105 = .ok (.iconst 0, 1) := dk_3 (dk_at dksX3_load_4 10 rfl rfl)
theorem dX3_load_106 : decode cX3_load 106 = .ok (.iaload, 1) := dk_46 (dk_at dksX3_load_4 11 rfl rfl)
theorem dX3_load_107 : decode cX3_load 107 = .ok (.ireturn, 1) := dk_172 (dk_at dksX3_load_4 12 rfl rfl)
abbrev cX3_in : ByteArray := prog_21_method_2_code
def yX3_in : MethodName := ⟨RX3, "in", "(III)Z"⟩
def dkwX3_in_0 : List UInt8 := [26, 27, 161, 0, 12, 26, 28, 163, 0, 7, 4, 167, 0, 4, 3, 172]
abbrev dktX3_in_0 : List UInt8 := dkwX3_in_0 ++ []
theorem dksX3_in_0 : cX3_in.data.toList.drop 0 = dktX3_in_0 := by decide +kernel
theorem dX3_in_0 : decode cX3_in 0 = .ok (.iload_n 0, 1) := dk_26 (dk_at dksX3_in_0 0 rfl rfl)
theorem dX3_in_1 : decode cX3_in 1 = .ok (.iload_n 1, 1) := dk_27 (dk_at dksX3_in_0 1 rfl rfl)
theorem dX3_in_2 : decode cX3_in 2 = .ok (.if_icmp .lt 12, 3) := dk_161 0 12 (dk_at dksX3_in_0 2 rfl rfl)
theorem dX3_in_5 : decode cX3_in 5 = .ok (.iload_n 0, 1) := dk_26 (dk_at dksX3_in_0 5 rfl rfl)
theorem dX3_in_6 : decode cX3_in 6 = .ok (.iload_n 2, 1) := dk_28 (dk_at dksX3_in_0 6 rfl rfl)
theorem dX3_in_7 : decode cX3_in 7 = .ok (.if_icmp .gt 7, 3) := dk_163 0 7 (dk_at dksX3_in_0 7 rfl rfl)
theorem dX3_in_10 : decode cX3_in 10 = .ok (.iconst 1, 1) := dk_4 (dk_at dksX3_in_0 10 rfl rfl)
theorem dX3_in_11 : decode cX3_in 11 = .ok (.goto 4, 3) := dk_167 0 4 (dk_at dksX3_in_0 11 rfl rfl)
theorem dX3_in_14 : decode cX3_in 14 = .ok (.iconst 0, 1) := dk_3 (dk_at dksX3_in_0 14 rfl rfl)
theorem dX3_in_15 : decode cX3_in 15 = .ok (.ireturn, 1) := dk_172 (dk_at dksX3_in_0 15 rfl rfl)
abbrev cX3_may : ByteArray := prog_21_method_3_code
def yX3_may : MethodName := ⟨RX3, "may", "(Z)Z"⟩
def dkwX3_may_0 : List UInt8 := [42, 27, 153, 0, 7, 3, 167, 0, 4, 4, 181, 0, 1, 27, 172]
abbrev dktX3_may_0 : List UInt8 := dkwX3_may_0 ++ []
theorem dksX3_may_0 : cX3_may.data.toList.drop 0 = dktX3_may_0 := by decide +kernel
theorem dX3_may_0 : decode cX3_may 0 = .ok (.aload_n 0, 1) := dk_42 (dk_at dksX3_may_0 0 rfl rfl)
theorem dX3_may_1 : decode cX3_may 1 = .ok (.iload_n 1, 1) := dk_27 (dk_at dksX3_may_0 1 rfl rfl)
theorem dX3_may_2 : decode cX3_may 2 = .ok (.ifCond .eq 7, 3) := dk_153 0 7 (dk_at dksX3_may_0 2 rfl rfl)
theorem dX3_may_5 : decode cX3_may 5 = .ok (.iconst 0, 1) := dk_3 (dk_at dksX3_may_0 5 rfl rfl)
theorem dX3_may_6 : decode cX3_may 6 = .ok (.goto 4, 3) := dk_167 0 4 (dk_at dksX3_may_0 6 rfl rfl)
theorem dX3_may_9 : decode cX3_may 9 = .ok (.iconst 1, 1) := dk_4 (dk_at dksX3_may_0 9 rfl rfl)
theorem dX3_may_10 : decode cX3_may 10 = .ok (.putfield 1, 3) := dk_181 0 1 (dk_at dksX3_may_0 10 rfl rfl)
theorem dX3_may_13 : decode cX3_may 13 = .ok (.iload_n 1, 1) := dk_27 (dk_at dksX3_may_0 13 rfl rfl)
theorem dX3_may_14 : decode cX3_may 14 = .ok (.ireturn, 1) := dk_172 (dk_at dksX3_may_0 14 rfl rfl)
abbrev cX3_copies : ByteArray := prog_21_method_6_code
def yX3_copies : MethodName := ⟨RX3, "copies", "([II[II)V"⟩
def dkwX3_copies_1 : List UInt8 := [132, 4, 1, 167, 255, 233, 177]
abbrev dktX3_copies_1 : List UInt8 := dkwX3_copies_1 ++ []
def dkwX3_copies_0 : List UInt8 := [3, 54, 4, 21, 4, 17, 8, 147, 162, 0, 21, 44, 29, 21, 4, 96, 42, 27, 21, 4, 96, 46, 79]
abbrev dktX3_copies_0 : List UInt8 := dkwX3_copies_0 ++ dktX3_copies_1
theorem dksX3_copies_0 : cX3_copies.data.toList.drop 0 = dktX3_copies_0 := by decide +kernel
theorem dksX3_copies_1 : cX3_copies.data.toList.drop 23 = dktX3_copies_1 := dk_seg dksX3_copies_0 23 rfl rfl
theorem dX3_copies_0 : decode cX3_copies 0 = .ok (.iconst 0, 1) := dk_3 (dk_at dksX3_copies_0 0 rfl rfl)
theorem dX3_copies_1 : decode cX3_copies 1 = .ok (.istore 4, 2) := dk_54 4 (dk_at dksX3_copies_0 1 rfl rfl)
theorem dX3_copies_3 : decode cX3_copies 3 = .ok (.iload 4, 2) := dk_21 4 (dk_at dksX3_copies_0 3 rfl rfl)
theorem dX3_copies_5 : decode cX3_copies 5 = .ok (.sipush 2195, 3) := dk_17 8 147 (dk_at dksX3_copies_0 5 rfl rfl)
theorem dX3_copies_8 : decode cX3_copies 8 = .ok (.if_icmp .ge 21, 3) := dk_162 0 21 (dk_at dksX3_copies_0 8 rfl rfl)
theorem dX3_copies_11 : decode cX3_copies 11 = .ok (.aload_n 2, 1) := dk_44 (dk_at dksX3_copies_0 11 rfl rfl)
theorem dX3_copies_12 : decode cX3_copies 12 = .ok (.iload_n 3, 1) := dk_29 (dk_at dksX3_copies_0 12 rfl rfl)
theorem dX3_copies_13 : decode cX3_copies 13 = .ok (.iload 4, 2) := dk_21 4 (dk_at dksX3_copies_0 13 rfl rfl)
theorem dX3_copies_15 : decode cX3_copies 15 = .ok (.iadd, 1) := dk_96 (dk_at dksX3_copies_0 15 rfl rfl)
theorem dX3_copies_16 : decode cX3_copies 16 = .ok (.aload_n 0, 1) := dk_42 (dk_at dksX3_copies_0 16 rfl rfl)
theorem dX3_copies_17 : decode cX3_copies 17 = .ok (.iload_n 1, 1) := dk_27 (dk_at dksX3_copies_0 17 rfl rfl)
theorem dX3_copies_18 : decode cX3_copies 18 = .ok (.iload 4, 2) := dk_21 4 (dk_at dksX3_copies_0 18 rfl rfl)
theorem dX3_copies_20 : decode cX3_copies 20 = .ok (.iadd, 1) := dk_96 (dk_at dksX3_copies_0 20 rfl rfl)
theorem dX3_copies_21 : decode cX3_copies 21 = .ok (.iaload, 1) := dk_46 (dk_at dksX3_copies_0 21 rfl rfl)
theorem dX3_copies_22 : decode cX3_copies 22 = .ok (.iastore, 1) := dk_79 (dk_at dksX3_copies_0 22 rfl rfl)
theorem dX3_copies_23 : decode cX3_copies 23 = .ok (.iinc 4 1, 3) := dk_132 4 1 (dk_at dksX3_copies_1 0 rfl rfl)
theorem dX3_copies_26 : decode cX3_copies 26 = .ok (.goto (-23), 3) := dk_167 255 233 (dk_at dksX3_copies_1 3 rfl rfl)
theorem dX3_copies_29 : decode cX3_copies 29 = .ok (.return_, 1) := dk_177 (dk_at dksX3_copies_1 6 rfl rfl)
abbrev cX3_reads : ByteArray := prog_21_method_16_code
def yX3_reads : MethodName := ⟨RX3, "reads", "(I)V"⟩
def dkwX3_reads_7 : List UInt8 := [2, 79, 177]
abbrev dktX3_reads_7 : List UInt8 := dkwX3_reads_7 ++ []
def dkwX3_reads_6 : List UInt8 := [132, 3, 1, 167, 255, 128, 42, 180, 0, 13, 5, 42, 180, 0, 13, 3, 46, 158, 0, 7, 3, 167, 0, 4]
abbrev dktX3_reads_6 : List UInt8 := dkwX3_reads_6 ++ dktX3_reads_7
def dkwX3_reads_5 : List UInt8 := [180, 0, 13, 28, 5, 96, 46, 96, 21, 4, 79, 42, 180, 0, 13, 28, 5, 96, 92, 46, 4, 96, 79]
abbrev dktX3_reads_5 : List UInt8 := dkwX3_reads_5 ++ dktX3_reads_6
def dkwX3_reads_4 : List UInt8 := [16, 24, 160, 0, 12, 42, 5, 29, 182, 0, 103, 167, 0, 34, 42, 180, 0, 13, 28, 6, 96, 42]
abbrev dktX3_reads_4 : List UInt8 := dkwX3_reads_4 ++ dktX3_reads_5
def dkwX3_reads_3 : List UInt8 := [184, 0, 107, 154, 0, 12, 42, 4, 29, 182, 0, 103, 167, 0, 56, 42, 180, 0, 13, 28, 5, 96, 46]
abbrev dktX3_reads_3 : List UInt8 := dkwX3_reads_3 ++ dktX3_reads_4
def dkwX3_reads_2 : List UInt8 := [16, 80, 160, 0, 12, 42, 6, 29, 182, 0, 103, 167, 0, 81, 42, 182, 0, 99, 61, 167, 0, 73, 21, 4]
abbrev dktX3_reads_2 : List UInt8 := dkwX3_reads_2 ++ dktX3_reads_3
def dkwX3_reads_1 : List UInt8 := [154, 0, 122, 42, 180, 0, 30, 29, 51, 54, 4, 21, 4, 16, 124, 160, 0, 31, 42, 180, 0, 13, 3, 46]
abbrev dktX3_reads_1 : List UInt8 := dkwX3_reads_1 ++ dktX3_reads_2
def dkwX3_reads_0 : List UInt8 := [27, 158, 0, 10, 42, 182, 0, 99, 167, 0, 4, 3, 61, 3, 62, 29, 27, 162, 0, 129, 42, 180, 0, 92]
abbrev dktX3_reads_0 : List UInt8 := dkwX3_reads_0 ++ dktX3_reads_1
theorem dksX3_reads_0 : cX3_reads.data.toList.drop 0 = dktX3_reads_0 := by decide +kernel
theorem dksX3_reads_1 : cX3_reads.data.toList.drop 24 = dktX3_reads_1 := dk_seg dksX3_reads_0 24 rfl rfl
theorem dksX3_reads_2 : cX3_reads.data.toList.drop 48 = dktX3_reads_2 := dk_seg dksX3_reads_1 24 rfl rfl
theorem dksX3_reads_3 : cX3_reads.data.toList.drop 72 = dktX3_reads_3 := dk_seg dksX3_reads_2 24 rfl rfl
theorem dksX3_reads_4 : cX3_reads.data.toList.drop 95 = dktX3_reads_4 := dk_seg dksX3_reads_3 23 rfl rfl
theorem dksX3_reads_5 : cX3_reads.data.toList.drop 117 = dktX3_reads_5 := dk_seg dksX3_reads_4 22 rfl rfl
theorem dksX3_reads_6 : cX3_reads.data.toList.drop 140 = dktX3_reads_6 := dk_seg dksX3_reads_5 23 rfl rfl
theorem dksX3_reads_7 : cX3_reads.data.toList.drop 164 = dktX3_reads_7 := dk_seg dksX3_reads_6 24 rfl rfl
theorem dX3_reads_0 : decode cX3_reads 0 = .ok (.iload_n 1, 1) := dk_27 (dk_at dksX3_reads_0 0 rfl rfl)
theorem dX3_reads_1 : decode cX3_reads 1 = .ok (.ifCond .le 10, 3) := dk_158 0 10 (dk_at dksX3_reads_0 1 rfl rfl)
theorem dX3_reads_4 : decode cX3_reads 4 = .ok (.aload_n 0, 1) := dk_42 (dk_at dksX3_reads_0 4 rfl rfl)
theorem dX3_reads_5 : decode cX3_reads 5 = .ok (.invokevirtual 99, 3) := dk_182 0 99 (dk_at dksX3_reads_0 5 rfl rfl)
theorem dX3_reads_8 : decode cX3_reads 8 = .ok (.goto 4, 3) := dk_167 0 4 (dk_at dksX3_reads_0 8 rfl rfl)
theorem dX3_reads_11 : decode cX3_reads 11 = .ok (.iconst 0, 1) := dk_3 (dk_at dksX3_reads_0 11 rfl rfl)
theorem dX3_reads_12 : decode cX3_reads 12 = .ok (.istore_n 2, 1) := dk_61 (dk_at dksX3_reads_0 12 rfl rfl)
theorem dX3_reads_13 : decode cX3_reads 13 = .ok (.iconst 0, 1) := dk_3 (dk_at dksX3_reads_0 13 rfl rfl)
theorem dX3_reads_14 : decode cX3_reads 14 = .ok (.istore_n 3, 1) := dk_62 (dk_at dksX3_reads_0 14 rfl rfl)
theorem dX3_reads_15 : decode cX3_reads 15 = .ok (.iload_n 3, 1) := dk_29 (dk_at dksX3_reads_0 15 rfl rfl)
theorem dX3_reads_16 : decode cX3_reads 16 = .ok (.iload_n 1, 1) := dk_27 (dk_at dksX3_reads_0 16 rfl rfl)
theorem dX3_reads_17 : decode cX3_reads 17 = .ok (.if_icmp .ge 129, 3) := dk_162 0 129 (dk_at dksX3_reads_0 17 rfl rfl)
theorem dX3_reads_20 : decode cX3_reads 20 = .ok (.aload_n 0, 1) := dk_42 (dk_at dksX3_reads_0 20 rfl rfl)
theorem dX3_reads_21 : decode cX3_reads 21 = .ok (.getfield 92, 3) := dk_180 0 92 (dk_at dksX3_reads_0 21 rfl rfl)
theorem dX3_reads_24 : decode cX3_reads 24 = .ok (.ifCond .ne 122, 3) := dk_154 0 122 (dk_at dksX3_reads_1 0 rfl rfl)
theorem dX3_reads_27 : decode cX3_reads 27 = .ok (.aload_n 0, 1) := dk_42 (dk_at dksX3_reads_1 3 rfl rfl)
theorem dX3_reads_28 : decode cX3_reads 28 = .ok (.getfield 30, 3) := dk_180 0 30 (dk_at dksX3_reads_1 4 rfl rfl)
theorem dX3_reads_31 : decode cX3_reads 31 = .ok (.iload_n 3, 1) := dk_29 (dk_at dksX3_reads_1 7 rfl rfl)
theorem dX3_reads_32 : decode cX3_reads 32 = .ok (.baload, 1) := dk_51 (dk_at dksX3_reads_1 8 rfl rfl)
theorem dX3_reads_33 : decode cX3_reads 33 = .ok (.istore 4, 2) := dk_54 4 (dk_at dksX3_reads_1 9 rfl rfl)
theorem dX3_reads_35 : decode cX3_reads 35 = .ok (.iload 4, 2) := dk_21 4 (dk_at dksX3_reads_1 11 rfl rfl)
theorem dX3_reads_37 : decode cX3_reads 37 = .ok (.bipush 124, 2) := dk_16 124 (dk_at dksX3_reads_1 13 rfl rfl)
theorem dX3_reads_39 : decode cX3_reads 39 = .ok (.if_icmp .ne 31, 3) := dk_160 0 31 (dk_at dksX3_reads_1 15 rfl rfl)
theorem dX3_reads_42 : decode cX3_reads 42 = .ok (.aload_n 0, 1) := dk_42 (dk_at dksX3_reads_1 18 rfl rfl)
theorem dX3_reads_43 : decode cX3_reads 43 = .ok (.getfield 13, 3) := dk_180 0 13 (dk_at dksX3_reads_1 19 rfl rfl)
theorem dX3_reads_46 : decode cX3_reads 46 = .ok (.iconst 0, 1) := dk_3 (dk_at dksX3_reads_1 22 rfl rfl)
theorem dX3_reads_47 : decode cX3_reads 47 = .ok (.iaload, 1) := dk_46 (dk_at dksX3_reads_1 23 rfl rfl)
theorem dX3_reads_48 : decode cX3_reads 48 = .ok (.bipush 80, 2) := dk_16 80 (dk_at dksX3_reads_2 0 rfl rfl)
theorem dX3_reads_50 : decode cX3_reads 50 = .ok (.if_icmp .ne 12, 3) := dk_160 0 12 (dk_at dksX3_reads_2 2 rfl rfl)
theorem dX3_reads_53 : decode cX3_reads 53 = .ok (.aload_n 0, 1) := dk_42 (dk_at dksX3_reads_2 5 rfl rfl)
theorem dX3_reads_54 : decode cX3_reads 54 = .ok (.iconst 3, 1) := dk_6 (dk_at dksX3_reads_2 6 rfl rfl)
theorem dX3_reads_55 : decode cX3_reads 55 = .ok (.iload_n 3, 1) := dk_29 (dk_at dksX3_reads_2 7 rfl rfl)
theorem dX3_reads_56 : decode cX3_reads 56 = .ok (.invokevirtual 103, 3) := dk_182 0 103 (dk_at dksX3_reads_2 8 rfl rfl)
theorem dX3_reads_59 : decode cX3_reads 59 = .ok (.goto 81, 3) := dk_167 0 81 (dk_at dksX3_reads_2 11 rfl rfl)
theorem dX3_reads_62 : decode cX3_reads 62 = .ok (.aload_n 0, 1) := dk_42 (dk_at dksX3_reads_2 14 rfl rfl)
theorem dX3_reads_63 : decode cX3_reads 63 = .ok (.invokevirtual 99, 3) := dk_182 0 99 (dk_at dksX3_reads_2 15 rfl rfl)
theorem dX3_reads_66 : decode cX3_reads 66 = .ok (.istore_n 2, 1) := dk_61 (dk_at dksX3_reads_2 18 rfl rfl)
theorem dX3_reads_67 : decode cX3_reads 67 = .ok (.goto 73, 3) := dk_167 0 73 (dk_at dksX3_reads_2 19 rfl rfl)
theorem dX3_reads_70 : decode cX3_reads 70 = .ok (.iload 4, 2) := dk_21 4 (dk_at dksX3_reads_2 22 rfl rfl)
theorem dX3_reads_72 : decode cX3_reads 72 = .ok (.invokestatic 107, 3) := dk_184 0 107 (dk_at dksX3_reads_3 0 rfl rfl)
theorem dX3_reads_75 : decode cX3_reads 75 = .ok (.ifCond .ne 12, 3) := dk_154 0 12 (dk_at dksX3_reads_3 3 rfl rfl)
theorem dX3_reads_78 : decode cX3_reads 78 = .ok (.aload_n 0, 1) := dk_42 (dk_at dksX3_reads_3 6 rfl rfl)
theorem dX3_reads_79 : decode cX3_reads 79 = .ok (.iconst 1, 1) := dk_4 (dk_at dksX3_reads_3 7 rfl rfl)
theorem dX3_reads_80 : decode cX3_reads 80 = .ok (.iload_n 3, 1) := dk_29 (dk_at dksX3_reads_3 8 rfl rfl)
theorem dX3_reads_81 : decode cX3_reads 81 = .ok (.invokevirtual 103, 3) := dk_182 0 103 (dk_at dksX3_reads_3 9 rfl rfl)
theorem dX3_reads_84 : decode cX3_reads 84 = .ok (.goto 56, 3) := dk_167 0 56 (dk_at dksX3_reads_3 12 rfl rfl)
theorem dX3_reads_87 : decode cX3_reads 87 = .ok (.aload_n 0, 1) := dk_42 (dk_at dksX3_reads_3 15 rfl rfl)
theorem dX3_reads_88 : decode cX3_reads 88 = .ok (.getfield 13, 3) := dk_180 0 13 (dk_at dksX3_reads_3 16 rfl rfl)
theorem dX3_reads_91 : decode cX3_reads 91 = .ok (.iload_n 2, 1) := dk_28 (dk_at dksX3_reads_3 19 rfl rfl)
theorem dX3_reads_92 : decode cX3_reads 92 = .ok (.iconst 2, 1) := dk_5 (dk_at dksX3_reads_3 20 rfl rfl)
theorem dX3_reads_93 : decode cX3_reads 93 = .ok (.iadd, 1) := dk_96 (dk_at dksX3_reads_3 21 rfl rfl)
theorem dX3_reads_94 : decode cX3_reads 94 = .ok (.iaload, 1) := dk_46 (dk_at dksX3_reads_3 22 rfl rfl)
theorem dX3_reads_95 : decode cX3_reads 95 = .ok (.bipush 24, 2) := dk_16 24 (dk_at dksX3_reads_4 0 rfl rfl)
theorem dX3_reads_97 : decode cX3_reads 97 = .ok (.if_icmp .ne 12, 3) := dk_160 0 12 (dk_at dksX3_reads_4 2 rfl rfl)
theorem dX3_reads_100 : decode cX3_reads 100 = .ok (.aload_n 0, 1) := dk_42 (dk_at dksX3_reads_4 5 rfl rfl)
theorem dX3_reads_101 : decode cX3_reads 101 = .ok (.iconst 2, 1) := dk_5 (dk_at dksX3_reads_4 6 rfl rfl)
theorem dX3_reads_102 : decode cX3_reads 102 = .ok (.iload_n 3, 1) := dk_29 (dk_at dksX3_reads_4 7 rfl rfl)
theorem dX3_reads_103 : decode cX3_reads 103 = .ok (.invokevirtual 103, 3) := dk_182 0 103 (dk_at dksX3_reads_4 8 rfl rfl)
theorem dX3_reads_106 : decode cX3_reads 106 = .ok (.goto 34, 3) := dk_167 0 34 (dk_at dksX3_reads_4 11 rfl rfl)
theorem dX3_reads_109 : decode cX3_reads 109 = .ok (.aload_n 0, 1) := dk_42 (dk_at dksX3_reads_4 14 rfl rfl)
theorem dX3_reads_110 : decode cX3_reads 110 = .ok (.getfield 13, 3) := dk_180 0 13 (dk_at dksX3_reads_4 15 rfl rfl)
theorem dX3_reads_113 : decode cX3_reads 113 = .ok (.iload_n 2, 1) := dk_28 (dk_at dksX3_reads_4 18 rfl rfl)
theorem dX3_reads_114 : decode cX3_reads 114 = .ok (.iconst 3, 1) := dk_6 (dk_at dksX3_reads_4 19 rfl rfl)
theorem dX3_reads_115 : decode cX3_reads 115 = .ok (.iadd, 1) := dk_96 (dk_at dksX3_reads_4 20 rfl rfl)
theorem dX3_reads_116 : decode cX3_reads 116 = .ok (.aload_n 0, 1) := dk_42 (dk_at dksX3_reads_4 21 rfl rfl)
theorem dX3_reads_117 : decode cX3_reads 117 = .ok (.getfield 13, 3) := dk_180 0 13 (dk_at dksX3_reads_5 0 rfl rfl)
theorem dX3_reads_120 : decode cX3_reads 120 = .ok (.iload_n 2, 1) := dk_28 (dk_at dksX3_reads_5 3 rfl rfl)
theorem dX3_reads_121 : decode cX3_reads 121 = .ok (.iconst 2, 1) := dk_5 (dk_at dksX3_reads_5 4 rfl rfl)
theorem dX3_reads_122 : decode cX3_reads 122 = .ok (.iadd, 1) := dk_96 (dk_at dksX3_reads_5 5 rfl rfl)
theorem dX3_reads_123 : decode cX3_reads 123 = .ok (.iaload, 1) := dk_46 (dk_at dksX3_reads_5 6 rfl rfl)
theorem dX3_reads_124 : decode cX3_reads 124 = .ok (.iadd, 1) := dk_96 (dk_at dksX3_reads_5 7 rfl rfl)
theorem dX3_reads_125 : decode cX3_reads 125 = .ok (.iload 4, 2) := dk_21 4 (dk_at dksX3_reads_5 8 rfl rfl)
theorem dX3_reads_127 : decode cX3_reads 127 = .ok (.iastore, 1) := dk_79 (dk_at dksX3_reads_5 10 rfl rfl)
theorem dX3_reads_128 : decode cX3_reads 128 = .ok (.aload_n 0, 1) := dk_42 (dk_at dksX3_reads_5 11 rfl rfl)
theorem dX3_reads_129 : decode cX3_reads 129 = .ok (.getfield 13, 3) := dk_180 0 13 (dk_at dksX3_reads_5 12 rfl rfl)
theorem dX3_reads_132 : decode cX3_reads 132 = .ok (.iload_n 2, 1) := dk_28 (dk_at dksX3_reads_5 15 rfl rfl)
theorem dX3_reads_133 : decode cX3_reads 133 = .ok (.iconst 2, 1) := dk_5 (dk_at dksX3_reads_5 16 rfl rfl)
theorem dX3_reads_134 : decode cX3_reads 134 = .ok (.iadd, 1) := dk_96 (dk_at dksX3_reads_5 17 rfl rfl)
theorem dX3_reads_135 : decode cX3_reads 135 = .ok (.dup2, 1) := dk_92 (dk_at dksX3_reads_5 18 rfl rfl)
theorem dX3_reads_136 : decode cX3_reads 136 = .ok (.iaload, 1) := dk_46 (dk_at dksX3_reads_5 19 rfl rfl)
theorem dX3_reads_137 : decode cX3_reads 137 = .ok (.iconst 1, 1) := dk_4 (dk_at dksX3_reads_5 20 rfl rfl)
theorem dX3_reads_138 : decode cX3_reads 138 = .ok (.iadd, 1) := dk_96 (dk_at dksX3_reads_5 21 rfl rfl)
theorem dX3_reads_139 : decode cX3_reads 139 = .ok (.iastore, 1) := dk_79 (dk_at dksX3_reads_5 22 rfl rfl)
theorem dX3_reads_140 : decode cX3_reads 140 = .ok (.iinc 3 1, 3) := dk_132 3 1 (dk_at dksX3_reads_6 0 rfl rfl)
theorem dX3_reads_143 : decode cX3_reads 143 = .ok (.goto (-128), 3) := dk_167 255 128 (dk_at dksX3_reads_6 3 rfl rfl)
theorem dX3_reads_146 : decode cX3_reads 146 = .ok (.aload_n 0, 1) := dk_42 (dk_at dksX3_reads_6 6 rfl rfl)
theorem dX3_reads_147 : decode cX3_reads 147 = .ok (.getfield 13, 3) := dk_180 0 13 (dk_at dksX3_reads_6 7 rfl rfl)
theorem dX3_reads_150 : decode cX3_reads 150 = .ok (.iconst 2, 1) := dk_5 (dk_at dksX3_reads_6 10 rfl rfl)
theorem dX3_reads_151 : decode cX3_reads 151 = .ok (.aload_n 0, 1) := dk_42 (dk_at dksX3_reads_6 11 rfl rfl)
theorem dX3_reads_152 : decode cX3_reads 152 = .ok (.getfield 13, 3) := dk_180 0 13 (dk_at dksX3_reads_6 12 rfl rfl)
theorem dX3_reads_155 : decode cX3_reads 155 = .ok (.iconst 0, 1) := dk_3 (dk_at dksX3_reads_6 15 rfl rfl)
theorem dX3_reads_156 : decode cX3_reads 156 = .ok (.iaload, 1) := dk_46 (dk_at dksX3_reads_6 16 rfl rfl)
theorem dX3_reads_157 : decode cX3_reads 157 = .ok (.ifCond .le 7, 3) := dk_158 0 7 (dk_at dksX3_reads_6 17 rfl rfl)
theorem dX3_reads_160 : decode cX3_reads 160 = .ok (.iconst 0, 1) := dk_3 (dk_at dksX3_reads_6 20 rfl rfl)
theorem dX3_reads_161 : decode cX3_reads 161 = .ok (.goto 4, 3) := dk_167 0 4 (dk_at dksX3_reads_6 21 rfl rfl)
theorem dX3_reads_164 : decode cX3_reads 164 = .ok (.iconst (-1), 1) := dk_2 (dk_at dksX3_reads_7 0 rfl rfl)
theorem dX3_reads_165 : decode cX3_reads 165 = .ok (.iastore, 1) := dk_79 (dk_at dksX3_reads_7 1 rfl rfl)
theorem dX3_reads_166 : decode cX3_reads 166 = .ok (.return_, 1) := dk_177 (dk_at dksX3_reads_7 2 rfl rfl)
abbrev cX3_comes : ByteArray := prog_21_method_15_code
def yX3_comes : MethodName := ⟨RX3, "comes", "()I"⟩
def dkwX3_comes_2 : List UInt8 := [180, 0, 13, 4, 92, 46, 4, 96, 79, 42, 180, 0, 13, 3, 92, 46, 4, 96, 79, 27, 172]
abbrev dktX3_comes_2 : List UInt8 := dkwX3_comes_2 ++ []
def dkwX3_comes_1 : List UInt8 := [4, 46, 79, 42, 180, 0, 13, 27, 4, 96, 3, 79, 42, 180, 0, 13, 27, 5, 96, 3, 79, 42]
abbrev dktX3_comes_1 : List UInt8 := dkwX3_comes_1 ++ dktX3_comes_2
def dkwX3_comes_0 : List UInt8 := [16, 35, 16, 27, 42, 180, 0, 13, 3, 46, 104, 96, 60, 42, 180, 0, 13, 27, 3, 96, 42, 180, 0, 13]
abbrev dktX3_comes_0 : List UInt8 := dkwX3_comes_0 ++ dktX3_comes_1
theorem dksX3_comes_0 : cX3_comes.data.toList.drop 0 = dktX3_comes_0 := by decide +kernel
theorem dksX3_comes_1 : cX3_comes.data.toList.drop 24 = dktX3_comes_1 := dk_seg dksX3_comes_0 24 rfl rfl
theorem dksX3_comes_2 : cX3_comes.data.toList.drop 46 = dktX3_comes_2 := dk_seg dksX3_comes_1 22 rfl rfl
theorem dX3_comes_0 : decode cX3_comes 0 = .ok (.bipush 35, 2) := dk_16 35 (dk_at dksX3_comes_0 0 rfl rfl)
theorem dX3_comes_2 : decode cX3_comes 2 = .ok (.bipush 27, 2) := dk_16 27 (dk_at dksX3_comes_0 2 rfl rfl)
theorem dX3_comes_4 : decode cX3_comes 4 = .ok (.aload_n 0, 1) := dk_42 (dk_at dksX3_comes_0 4 rfl rfl)
theorem dX3_comes_5 : decode cX3_comes 5 = .ok (.getfield 13, 3) := dk_180 0 13 (dk_at dksX3_comes_0 5 rfl rfl)
theorem dX3_comes_8 : decode cX3_comes 8 = .ok (.iconst 0, 1) := dk_3 (dk_at dksX3_comes_0 8 rfl rfl)
theorem dX3_comes_9 : decode cX3_comes 9 = .ok (.iaload, 1) := dk_46 (dk_at dksX3_comes_0 9 rfl rfl)
theorem dX3_comes_10 : decode cX3_comes 10 = .ok (.imul, 1) := dk_104 (dk_at dksX3_comes_0 10 rfl rfl)
theorem dX3_comes_11 : decode cX3_comes 11 = .ok (.iadd, 1) := dk_96 (dk_at dksX3_comes_0 11 rfl rfl)
theorem dX3_comes_12 : decode cX3_comes 12 = .ok (.istore_n 1, 1) := dk_60 (dk_at dksX3_comes_0 12 rfl rfl)
theorem dX3_comes_13 : decode cX3_comes 13 = .ok (.aload_n 0, 1) := dk_42 (dk_at dksX3_comes_0 13 rfl rfl)
theorem dX3_comes_14 : decode cX3_comes 14 = .ok (.getfield 13, 3) := dk_180 0 13 (dk_at dksX3_comes_0 14 rfl rfl)
theorem dX3_comes_17 : decode cX3_comes 17 = .ok (.iload_n 1, 1) := dk_27 (dk_at dksX3_comes_0 17 rfl rfl)
theorem dX3_comes_18 : decode cX3_comes 18 = .ok (.iconst 0, 1) := dk_3 (dk_at dksX3_comes_0 18 rfl rfl)
theorem dX3_comes_19 : decode cX3_comes 19 = .ok (.iadd, 1) := dk_96 (dk_at dksX3_comes_0 19 rfl rfl)
theorem dX3_comes_20 : decode cX3_comes 20 = .ok (.aload_n 0, 1) := dk_42 (dk_at dksX3_comes_0 20 rfl rfl)
theorem dX3_comes_21 : decode cX3_comes 21 = .ok (.getfield 13, 3) := dk_180 0 13 (dk_at dksX3_comes_0 21 rfl rfl)
theorem dX3_comes_24 : decode cX3_comes 24 = .ok (.iconst 1, 1) := dk_4 (dk_at dksX3_comes_1 0 rfl rfl)
theorem dX3_comes_25 : decode cX3_comes 25 = .ok (.iaload, 1) := dk_46 (dk_at dksX3_comes_1 1 rfl rfl)
theorem dX3_comes_26 : decode cX3_comes 26 = .ok (.iastore, 1) := dk_79 (dk_at dksX3_comes_1 2 rfl rfl)
theorem dX3_comes_27 : decode cX3_comes 27 = .ok (.aload_n 0, 1) := dk_42 (dk_at dksX3_comes_1 3 rfl rfl)
theorem dX3_comes_28 : decode cX3_comes 28 = .ok (.getfield 13, 3) := dk_180 0 13 (dk_at dksX3_comes_1 4 rfl rfl)
theorem dX3_comes_31 : decode cX3_comes 31 = .ok (.iload_n 1, 1) := dk_27 (dk_at dksX3_comes_1 7 rfl rfl)
theorem dX3_comes_32 : decode cX3_comes 32 = .ok (.iconst 1, 1) := dk_4 (dk_at dksX3_comes_1 8 rfl rfl)
theorem dX3_comes_33 : decode cX3_comes 33 = .ok (.iadd, 1) := dk_96 (dk_at dksX3_comes_1 9 rfl rfl)
theorem dX3_comes_34 : decode cX3_comes 34 = .ok (.iconst 0, 1) := dk_3 (dk_at dksX3_comes_1 10 rfl rfl)
theorem dX3_comes_35 : decode cX3_comes 35 = .ok (.iastore, 1) := dk_79 (dk_at dksX3_comes_1 11 rfl rfl)
theorem dX3_comes_36 : decode cX3_comes 36 = .ok (.aload_n 0, 1) := dk_42 (dk_at dksX3_comes_1 12 rfl rfl)
theorem dX3_comes_37 : decode cX3_comes 37 = .ok (.getfield 13, 3) := dk_180 0 13 (dk_at dksX3_comes_1 13 rfl rfl)
theorem dX3_comes_40 : decode cX3_comes 40 = .ok (.iload_n 1, 1) := dk_27 (dk_at dksX3_comes_1 16 rfl rfl)
theorem dX3_comes_41 : decode cX3_comes 41 = .ok (.iconst 2, 1) := dk_5 (dk_at dksX3_comes_1 17 rfl rfl)
theorem dX3_comes_42 : decode cX3_comes 42 = .ok (.iadd, 1) := dk_96 (dk_at dksX3_comes_1 18 rfl rfl)
theorem dX3_comes_43 : decode cX3_comes 43 = .ok (.iconst 0, 1) := dk_3 (dk_at dksX3_comes_1 19 rfl rfl)
theorem dX3_comes_44 : decode cX3_comes 44 = .ok (.iastore, 1) := dk_79 (dk_at dksX3_comes_1 20 rfl rfl)
theorem dX3_comes_45 : decode cX3_comes 45 = .ok (.aload_n 0, 1) := dk_42 (dk_at dksX3_comes_1 21 rfl rfl)
theorem dX3_comes_46 : decode cX3_comes 46 = .ok (.getfield 13, 3) := dk_180 0 13 (dk_at dksX3_comes_2 0 rfl rfl)
theorem dX3_comes_49 : decode cX3_comes 49 = .ok (.iconst 1, 1) := dk_4 (dk_at dksX3_comes_2 3 rfl rfl)
theorem dX3_comes_50 : decode cX3_comes 50 = .ok (.dup2, 1) := dk_92 (dk_at dksX3_comes_2 4 rfl rfl)
theorem dX3_comes_51 : decode cX3_comes 51 = .ok (.iaload, 1) := dk_46 (dk_at dksX3_comes_2 5 rfl rfl)
theorem dX3_comes_52 : decode cX3_comes 52 = .ok (.iconst 1, 1) := dk_4 (dk_at dksX3_comes_2 6 rfl rfl)
theorem dX3_comes_53 : decode cX3_comes 53 = .ok (.iadd, 1) := dk_96 (dk_at dksX3_comes_2 7 rfl rfl)
theorem dX3_comes_54 : decode cX3_comes 54 = .ok (.iastore, 1) := dk_79 (dk_at dksX3_comes_2 8 rfl rfl)
theorem dX3_comes_55 : decode cX3_comes 55 = .ok (.aload_n 0, 1) := dk_42 (dk_at dksX3_comes_2 9 rfl rfl)
theorem dX3_comes_56 : decode cX3_comes 56 = .ok (.getfield 13, 3) := dk_180 0 13 (dk_at dksX3_comes_2 10 rfl rfl)
theorem dX3_comes_59 : decode cX3_comes 59 = .ok (.iconst 0, 1) := dk_3 (dk_at dksX3_comes_2 13 rfl rfl)
theorem dX3_comes_60 : decode cX3_comes 60 = .ok (.dup2, 1) := dk_92 (dk_at dksX3_comes_2 14 rfl rfl)
theorem dX3_comes_61 : decode cX3_comes 61 = .ok (.iaload, 1) := dk_46 (dk_at dksX3_comes_2 15 rfl rfl)
theorem dX3_comes_62 : decode cX3_comes 62 = .ok (.iconst 1, 1) := dk_4 (dk_at dksX3_comes_2 16 rfl rfl)
theorem dX3_comes_63 : decode cX3_comes 63 = .ok (.iadd, 1) := dk_96 (dk_at dksX3_comes_2 17 rfl rfl)
theorem dX3_comes_64 : decode cX3_comes 64 = .ok (.iastore, 1) := dk_79 (dk_at dksX3_comes_2 18 rfl rfl)
theorem dX3_comes_65 : decode cX3_comes 65 = .ok (.iload_n 1, 1) := dk_27 (dk_at dksX3_comes_2 19 rfl rfl)
theorem dX3_comes_66 : decode cX3_comes 66 = .ok (.ireturn, 1) := dk_172 (dk_at dksX3_comes_2 20 rfl rfl)
abbrev cX3_faults : ByteArray := prog_21_method_14_code
def yX3_faults : MethodName := ⟨RX3, "faults", "(II)V"⟩
def dkwX3_faults_0 : List UInt8 := [42, 27, 181, 0, 92, 42, 28, 181, 0, 34, 177]
abbrev dktX3_faults_0 : List UInt8 := dkwX3_faults_0 ++ []
theorem dksX3_faults_0 : cX3_faults.data.toList.drop 0 = dktX3_faults_0 := by decide +kernel
theorem dX3_faults_0 : decode cX3_faults 0 = .ok (.aload_n 0, 1) := dk_42 (dk_at dksX3_faults_0 0 rfl rfl)
theorem dX3_faults_1 : decode cX3_faults 1 = .ok (.iload_n 1, 1) := dk_27 (dk_at dksX3_faults_0 1 rfl rfl)
theorem dX3_faults_2 : decode cX3_faults 2 = .ok (.putfield 92, 3) := dk_181 0 92 (dk_at dksX3_faults_0 2 rfl rfl)
theorem dX3_faults_5 : decode cX3_faults 5 = .ok (.aload_n 0, 1) := dk_42 (dk_at dksX3_faults_0 5 rfl rfl)
theorem dX3_faults_6 : decode cX3_faults 6 = .ok (.iload_n 2, 1) := dk_28 (dk_at dksX3_faults_0 6 rfl rfl)
theorem dX3_faults_7 : decode cX3_faults 7 = .ok (.putfield 34, 3) := dk_181 0 34 (dk_at dksX3_faults_0 7 rfl rfl)
theorem dX3_faults_10 : decode cX3_faults 10 = .ok (.return_, 1) := dk_177 (dk_at dksX3_faults_0 10 rfl rfl)
abbrev cX3_isByte : ByteArray := prog_21_method_13_code
def yX3_isByte : MethodName := ⟨RX3, "isByte", "(I)Z"⟩
def dkwX3_isByte_0 : List UInt8 := [26, 16, 32, 16, 126, 184, 0, 95, 153, 0, 13, 26, 16, 124, 159, 0, 7, 4, 167, 0, 4, 3, 172]
abbrev dktX3_isByte_0 : List UInt8 := dkwX3_isByte_0 ++ []
theorem dksX3_isByte_0 : cX3_isByte.data.toList.drop 0 = dktX3_isByte_0 := by decide +kernel
theorem dX3_isByte_0 : decode cX3_isByte 0 = .ok (.iload_n 0, 1) := dk_26 (dk_at dksX3_isByte_0 0 rfl rfl)
theorem dX3_isByte_1 : decode cX3_isByte 1 = .ok (.bipush 32, 2) := dk_16 32 (dk_at dksX3_isByte_0 1 rfl rfl)
theorem dX3_isByte_3 : decode cX3_isByte 3 = .ok (.bipush 126, 2) := dk_16 126 (dk_at dksX3_isByte_0 3 rfl rfl)
theorem dX3_isByte_5 : decode cX3_isByte 5 = .ok (.invokestatic 95, 3) := dk_184 0 95 (dk_at dksX3_isByte_0 5 rfl rfl)
theorem dX3_isByte_8 : decode cX3_isByte 8 = .ok (.ifCond .eq 13, 3) := dk_153 0 13 (dk_at dksX3_isByte_0 8 rfl rfl)
theorem dX3_isByte_11 : decode cX3_isByte 11 = .ok (.iload_n 0, 1) := dk_26 (dk_at dksX3_isByte_0 11 rfl rfl)
theorem dX3_isByte_12 : decode cX3_isByte 12 = .ok (.bipush 124, 2) := dk_16 124 (dk_at dksX3_isByte_0 12 rfl rfl)
theorem dX3_isByte_14 : decode cX3_isByte 14 = .ok (.if_icmp .eq 7, 3) := dk_159 0 7 (dk_at dksX3_isByte_0 14 rfl rfl)
theorem dX3_isByte_17 : decode cX3_isByte 17 = .ok (.iconst 1, 1) := dk_4 (dk_at dksX3_isByte_0 17 rfl rfl)
theorem dX3_isByte_18 : decode cX3_isByte 18 = .ok (.goto 4, 3) := dk_167 0 4 (dk_at dksX3_isByte_0 18 rfl rfl)
theorem dX3_isByte_21 : decode cX3_isByte 21 = .ok (.iconst 0, 1) := dk_3 (dk_at dksX3_isByte_0 21 rfl rfl)
theorem dX3_isByte_22 : decode cX3_isByte 22 = .ok (.ireturn, 1) := dk_172 (dk_at dksX3_isByte_0 22 rfl rfl)
abbrev cX3_line : ByteArray := prog_21_method_40_code
def yX3_line : MethodName := ⟨RX3, "line", "(II)I"⟩
def dkwX3_line_6 : List UInt8 := [182, 0, 183, 172, 42, 27, 182, 0, 186, 172, 42, 27, 182, 0, 189, 172]
abbrev dktX3_line_6 : List UInt8 := dkwX3_line_6 ++ []
def dkwX3_line_5 : List UInt8 := [42, 180, 0, 64, 27, 46, 172, 42, 27, 4, 182, 0, 129, 172, 42, 27, 182, 0, 180, 172, 42, 27]
abbrev dktX3_line_5 : List UInt8 := dkwX3_line_5 ++ dktX3_line_6
def dkwX3_line_4 : List UInt8 := [167, 0, 4, 4, 172, 42, 180, 0, 67, 27, 51, 153, 0, 7, 3, 167, 0, 8, 42, 27, 182, 0, 177, 172]
abbrev dktX3_line_4 : List UInt8 := dkwX3_line_4 ++ dktX3_line_5
def dkwX3_line_3 : List UInt8 := [42, 27, 3, 182, 0, 129, 172, 42, 27, 182, 0, 139, 172, 42, 180, 0, 67, 27, 51, 153, 0, 7, 3]
abbrev dktX3_line_3 : List UInt8 := dkwX3_line_3 ++ dktX3_line_4
def dkwX3_line_2 : List UInt8 := [170, 0, 0, 0, 0, 129, 0, 0, 0, 0, 0, 0, 0, 8, 0, 0, 0, 50, 0, 0, 0, 57, 0, 0, 0, 63, 0, 0, 0, 78, 0, 0, 0, 97, 0, 0, 0, 104, 0, 0, 0, 111, 0, 0, 0, 117, 0, 0, 0, 123]
abbrev dktX3_line_2 : List UInt8 := dkwX3_line_2 ++ dktX3_line_3
def dkwX3_line_1 : List UInt8 := [182, 0, 174, 28]
abbrev dktX3_line_1 : List UInt8 := dkwX3_line_1 ++ dktX3_line_2
def dkwX3_line_0 : List UInt8 := [42, 42, 27, 182, 0, 167, 28, 3, 16, 9, 184, 0, 95, 182, 0, 170, 154, 0, 5, 3, 172, 42]
abbrev dktX3_line_0 : List UInt8 := dkwX3_line_0 ++ dktX3_line_1
theorem dksX3_line_0 : cX3_line.data.toList.drop 0 = dktX3_line_0 := by decide +kernel
theorem dksX3_line_1 : cX3_line.data.toList.drop 22 = dktX3_line_1 := dk_seg dksX3_line_0 22 rfl rfl
theorem dksX3_line_2 : cX3_line.data.toList.drop 26 = dktX3_line_2 := dk_seg dksX3_line_1 4 rfl rfl
theorem dksX3_line_3 : cX3_line.data.toList.drop 76 = dktX3_line_3 := dk_seg dksX3_line_2 50 rfl rfl
theorem dksX3_line_4 : cX3_line.data.toList.drop 99 = dktX3_line_4 := dk_seg dksX3_line_3 23 rfl rfl
theorem dksX3_line_5 : cX3_line.data.toList.drop 123 = dktX3_line_5 := dk_seg dksX3_line_4 24 rfl rfl
theorem dksX3_line_6 : cX3_line.data.toList.drop 145 = dktX3_line_6 := dk_seg dksX3_line_5 22 rfl rfl
theorem dX3_line_0 : decode cX3_line 0 = .ok (.aload_n 0, 1) := dk_42 (dk_at dksX3_line_0 0 rfl rfl)
theorem dX3_line_1 : decode cX3_line 1 = .ok (.aload_n 0, 1) := dk_42 (dk_at dksX3_line_0 1 rfl rfl)
theorem dX3_line_2 : decode cX3_line 2 = .ok (.iload_n 1, 1) := dk_27 (dk_at dksX3_line_0 2 rfl rfl)
theorem dX3_line_3 : decode cX3_line 3 = .ok (.invokevirtual 167, 3) := dk_182 0 167 (dk_at dksX3_line_0 3 rfl rfl)
theorem dX3_line_6 : decode cX3_line 6 = .ok (.iload_n 2, 1) := dk_28 (dk_at dksX3_line_0 6 rfl rfl)
theorem dX3_line_7 : decode cX3_line 7 = .ok (.iconst 0, 1) := dk_3 (dk_at dksX3_line_0 7 rfl rfl)
theorem dX3_line_8 : decode cX3_line 8 = .ok (.bipush 9, 2) := dk_16 9 (dk_at dksX3_line_0 8 rfl rfl)
theorem dX3_line_10 : decode cX3_line 10 = .ok (.invokestatic 95, 3) := dk_184 0 95 (dk_at dksX3_line_0 10 rfl rfl)
theorem dX3_line_13 : decode cX3_line 13 = .ok (.invokevirtual 170, 3) := dk_182 0 170 (dk_at dksX3_line_0 13 rfl rfl)
theorem dX3_line_16 : decode cX3_line 16 = .ok (.ifCond .ne 5, 3) := dk_154 0 5 (dk_at dksX3_line_0 16 rfl rfl)
theorem dX3_line_19 : decode cX3_line 19 = .ok (.iconst 0, 1) := dk_3 (dk_at dksX3_line_0 19 rfl rfl)
theorem dX3_line_20 : decode cX3_line 20 = .ok (.ireturn, 1) := dk_172 (dk_at dksX3_line_0 20 rfl rfl)
theorem dX3_line_21 : decode cX3_line 21 = .ok (.aload_n 0, 1) := dk_42 (dk_at dksX3_line_0 21 rfl rfl)
theorem dX3_line_22 : decode cX3_line 22 = .ok (.invokevirtual 174, 3) := dk_182 0 174 (dk_at dksX3_line_1 0 rfl rfl)
theorem dX3_line_25 : decode cX3_line 25 = .ok (.iload_n 2, 1) := dk_28 (dk_at dksX3_line_1 3 rfl rfl)
theorem dX3_line_26 : decode cX3_line 26 = .ok (.tableswitch 129 0 8 #[50, 57, 63, 78, 97, 104, 111, 117, 123], 50) := by decide +kernel
theorem dX3_line_76 : decode cX3_line 76 = .ok (.aload_n 0, 1) := dk_42 (dk_at dksX3_line_3 0 rfl rfl)
theorem dX3_line_77 : decode cX3_line 77 = .ok (.iload_n 1, 1) := dk_27 (dk_at dksX3_line_3 1 rfl rfl)
theorem dX3_line_78 : decode cX3_line 78 = .ok (.iconst 0, 1) := dk_3 (dk_at dksX3_line_3 2 rfl rfl)
theorem dX3_line_79 : decode cX3_line 79 = .ok (.invokevirtual 129, 3) := dk_182 0 129 (dk_at dksX3_line_3 3 rfl rfl)
theorem dX3_line_82 : decode cX3_line 82 = .ok (.ireturn, 1) := dk_172 (dk_at dksX3_line_3 6 rfl rfl)
theorem dX3_line_83 : decode cX3_line 83 = .ok (.aload_n 0, 1) := dk_42 (dk_at dksX3_line_3 7 rfl rfl)
theorem dX3_line_84 : decode cX3_line 84 = .ok (.iload_n 1, 1) := dk_27 (dk_at dksX3_line_3 8 rfl rfl)
theorem dX3_line_85 : decode cX3_line 85 = .ok (.invokevirtual 139, 3) := dk_182 0 139 (dk_at dksX3_line_3 9 rfl rfl)
theorem dX3_line_88 : decode cX3_line 88 = .ok (.ireturn, 1) := dk_172 (dk_at dksX3_line_3 12 rfl rfl)
theorem dX3_line_89 : decode cX3_line 89 = .ok (.aload_n 0, 1) := dk_42 (dk_at dksX3_line_3 13 rfl rfl)
theorem dX3_line_90 : decode cX3_line 90 = .ok (.getfield 67, 3) := dk_180 0 67 (dk_at dksX3_line_3 14 rfl rfl)
theorem dX3_line_93 : decode cX3_line 93 = .ok (.iload_n 1, 1) := dk_27 (dk_at dksX3_line_3 17 rfl rfl)
theorem dX3_line_94 : decode cX3_line 94 = .ok (.baload, 1) := dk_51 (dk_at dksX3_line_3 18 rfl rfl)
theorem dX3_line_95 : decode cX3_line 95 = .ok (.ifCond .eq 7, 3) := dk_153 0 7 (dk_at dksX3_line_3 19 rfl rfl)
theorem dX3_line_98 : decode cX3_line 98 = .ok (.iconst 0, 1) := dk_3 (dk_at dksX3_line_3 22 rfl rfl)
theorem dX3_line_99 : decode cX3_line 99 = .ok (.goto 4, 3) := dk_167 0 4 (dk_at dksX3_line_4 0 rfl rfl)
theorem dX3_line_102 : decode cX3_line 102 = .ok (.iconst 1, 1) := dk_4 (dk_at dksX3_line_4 3 rfl rfl)
theorem dX3_line_103 : decode cX3_line 103 = .ok (.ireturn, 1) := dk_172 (dk_at dksX3_line_4 4 rfl rfl)
theorem dX3_line_104 : decode cX3_line 104 = .ok (.aload_n 0, 1) := dk_42 (dk_at dksX3_line_4 5 rfl rfl)
theorem dX3_line_105 : decode cX3_line 105 = .ok (.getfield 67, 3) := dk_180 0 67 (dk_at dksX3_line_4 6 rfl rfl)
theorem dX3_line_108 : decode cX3_line 108 = .ok (.iload_n 1, 1) := dk_27 (dk_at dksX3_line_4 9 rfl rfl)
theorem dX3_line_109 : decode cX3_line 109 = .ok (.baload, 1) := dk_51 (dk_at dksX3_line_4 10 rfl rfl)
theorem dX3_line_110 : decode cX3_line 110 = .ok (.ifCond .eq 7, 3) := dk_153 0 7 (dk_at dksX3_line_4 11 rfl rfl)
theorem dX3_line_113 : decode cX3_line 113 = .ok (.iconst 0, 1) := dk_3 (dk_at dksX3_line_4 14 rfl rfl)
theorem dX3_line_114 : decode cX3_line 114 = .ok (.goto 8, 3) := dk_167 0 8 (dk_at dksX3_line_4 15 rfl rfl)
theorem dX3_line_117 : decode cX3_line 117 = .ok (.aload_n 0, 1) := dk_42 (dk_at dksX3_line_4 18 rfl rfl)
theorem dX3_line_118 : decode cX3_line 118 = .ok (.iload_n 1, 1) := dk_27 (dk_at dksX3_line_4 19 rfl rfl)
theorem dX3_line_119 : decode cX3_line 119 = .ok (.invokevirtual 177, 3) := dk_182 0 177 (dk_at dksX3_line_4 20 rfl rfl)
theorem dX3_line_122 : decode cX3_line 122 = .ok (.ireturn, 1) := dk_172 (dk_at dksX3_line_4 23 rfl rfl)
theorem dX3_line_123 : decode cX3_line 123 = .ok (.aload_n 0, 1) := dk_42 (dk_at dksX3_line_5 0 rfl rfl)
theorem dX3_line_124 : decode cX3_line 124 = .ok (.getfield 64, 3) := dk_180 0 64 (dk_at dksX3_line_5 1 rfl rfl)
theorem dX3_line_127 : decode cX3_line 127 = .ok (.iload_n 1, 1) := dk_27 (dk_at dksX3_line_5 4 rfl rfl)
theorem dX3_line_128 : decode cX3_line 128 = .ok (.iaload, 1) := dk_46 (dk_at dksX3_line_5 5 rfl rfl)
theorem dX3_line_129 : decode cX3_line 129 = .ok (.ireturn, 1) := dk_172 (dk_at dksX3_line_5 6 rfl rfl)
theorem dX3_line_130 : decode cX3_line 130 = .ok (.aload_n 0, 1) := dk_42 (dk_at dksX3_line_5 7 rfl rfl)
theorem dX3_line_131 : decode cX3_line 131 = .ok (.iload_n 1, 1) := dk_27 (dk_at dksX3_line_5 8 rfl rfl)
theorem dX3_line_132 : decode cX3_line 132 = .ok (.iconst 1, 1) := dk_4 (dk_at dksX3_line_5 9 rfl rfl)
theorem dX3_line_133 : decode cX3_line 133 = .ok (.invokevirtual 129, 3) := dk_182 0 129 (dk_at dksX3_line_5 10 rfl rfl)
theorem dX3_line_136 : decode cX3_line 136 = .ok (.ireturn, 1) := dk_172 (dk_at dksX3_line_5 13 rfl rfl)
theorem dX3_line_137 : decode cX3_line 137 = .ok (.aload_n 0, 1) := dk_42 (dk_at dksX3_line_5 14 rfl rfl)
theorem dX3_line_138 : decode cX3_line 138 = .ok (.iload_n 1, 1) := dk_27 (dk_at dksX3_line_5 15 rfl rfl)
theorem dX3_line_139 : decode cX3_line 139 = .ok (.invokevirtual 180, 3) := dk_182 0 180 (dk_at dksX3_line_5 16 rfl rfl)
theorem dX3_line_142 : decode cX3_line 142 = .ok (.ireturn, 1) := dk_172 (dk_at dksX3_line_5 19 rfl rfl)
theorem dX3_line_143 : decode cX3_line 143 = .ok (.aload_n 0, 1) := dk_42 (dk_at dksX3_line_5 20 rfl rfl)
theorem dX3_line_144 : decode cX3_line 144 = .ok (.iload_n 1, 1) := dk_27 (dk_at dksX3_line_5 21 rfl rfl)
theorem dX3_line_145 : decode cX3_line 145 = .ok (.invokevirtual 183, 3) := dk_182 0 183 (dk_at dksX3_line_6 0 rfl rfl)
theorem dX3_line_148 : decode cX3_line 148 = .ok (.ireturn, 1) := dk_172 (dk_at dksX3_line_6 3 rfl rfl)
theorem dX3_line_149 : decode cX3_line 149 = .ok (.aload_n 0, 1) := dk_42 (dk_at dksX3_line_6 4 rfl rfl)
theorem dX3_line_150 : decode cX3_line 150 = .ok (.iload_n 1, 1) := dk_27 (dk_at dksX3_line_6 5 rfl rfl)
theorem dX3_line_151 : decode cX3_line 151 = .ok (.invokevirtual 186, 3) := dk_182 0 186 (dk_at dksX3_line_6 6 rfl rfl)
theorem dX3_line_154 : decode cX3_line 154 = .ok (.ireturn, 1) := dk_172 (dk_at dksX3_line_6 9 rfl rfl)
theorem dX3_line_155 : decode cX3_line 155 = .ok (.aload_n 0, 1) := dk_42 (dk_at dksX3_line_6 10 rfl rfl)
theorem dX3_line_156 : decode cX3_line 156 = .ok (.iload_n 1, 1) := dk_27 (dk_at dksX3_line_6 11 rfl rfl)
theorem dX3_line_157 : decode cX3_line 157 = .ok (.invokevirtual 189, 3) := dk_182 0 189 (dk_at dksX3_line_6 12 rfl rfl)
theorem dX3_line_160 : decode cX3_line 160 = .ok (.ireturn, 1) := dk_172 (dk_at dksX3_line_6 15 rfl rfl)
abbrev cX3_isLine : ByteArray := prog_21_method_18_code
def yX3_isLine : MethodName := ⟨RX3, "isLine", "(I)Z"⟩
def dkwX3_isLine_0 : List UInt8 := [27, 4, 42, 180, 0, 13, 3, 46, 184, 0, 95, 172]
abbrev dktX3_isLine_0 : List UInt8 := dkwX3_isLine_0 ++ []
theorem dksX3_isLine_0 : cX3_isLine.data.toList.drop 0 = dktX3_isLine_0 := by decide +kernel
theorem dX3_isLine_0 : decode cX3_isLine 0 = .ok (.iload_n 1, 1) := dk_27 (dk_at dksX3_isLine_0 0 rfl rfl)
theorem dX3_isLine_1 : decode cX3_isLine 1 = .ok (.iconst 1, 1) := dk_4 (dk_at dksX3_isLine_0 1 rfl rfl)
theorem dX3_isLine_2 : decode cX3_isLine 2 = .ok (.aload_n 0, 1) := dk_42 (dk_at dksX3_isLine_0 2 rfl rfl)
theorem dX3_isLine_3 : decode cX3_isLine 3 = .ok (.getfield 13, 3) := dk_180 0 13 (dk_at dksX3_isLine_0 3 rfl rfl)
theorem dX3_isLine_6 : decode cX3_isLine 6 = .ok (.iconst 0, 1) := dk_3 (dk_at dksX3_isLine_0 6 rfl rfl)
theorem dX3_isLine_7 : decode cX3_isLine 7 = .ok (.iaload, 1) := dk_46 (dk_at dksX3_isLine_0 7 rfl rfl)
theorem dX3_isLine_8 : decode cX3_isLine 8 = .ok (.invokestatic 95, 3) := dk_184 0 95 (dk_at dksX3_isLine_0 8 rfl rfl)
theorem dX3_isLine_11 : decode cX3_isLine 11 = .ok (.ireturn, 1) := dk_172 (dk_at dksX3_isLine_0 11 rfl rfl)
abbrev cX3_mayBoth : ByteArray := prog_21_method_4_code
def yX3_mayBoth : MethodName := ⟨RX3, "mayBoth", "(ZZ)Z"⟩
def dkwX3_mayBoth_1 : List UInt8 := [180, 0, 1, 154, 0, 7, 4, 167, 0, 4, 3, 172]
abbrev dktX3_mayBoth_1 : List UInt8 := dkwX3_mayBoth_1 ++ []
def dkwX3_mayBoth_0 : List UInt8 := [42, 27, 154, 0, 7, 4, 167, 0, 12, 28, 153, 0, 7, 3, 167, 0, 4, 5, 181, 0, 1, 42]
abbrev dktX3_mayBoth_0 : List UInt8 := dkwX3_mayBoth_0 ++ dktX3_mayBoth_1
theorem dksX3_mayBoth_0 : cX3_mayBoth.data.toList.drop 0 = dktX3_mayBoth_0 := by decide +kernel
theorem dksX3_mayBoth_1 : cX3_mayBoth.data.toList.drop 22 = dktX3_mayBoth_1 := dk_seg dksX3_mayBoth_0 22 rfl rfl
theorem dX3_mayBoth_0 : decode cX3_mayBoth 0 = .ok (.aload_n 0, 1) := dk_42 (dk_at dksX3_mayBoth_0 0 rfl rfl)
theorem dX3_mayBoth_1 : decode cX3_mayBoth 1 = .ok (.iload_n 1, 1) := dk_27 (dk_at dksX3_mayBoth_0 1 rfl rfl)
theorem dX3_mayBoth_2 : decode cX3_mayBoth 2 = .ok (.ifCond .ne 7, 3) := dk_154 0 7 (dk_at dksX3_mayBoth_0 2 rfl rfl)
theorem dX3_mayBoth_5 : decode cX3_mayBoth 5 = .ok (.iconst 1, 1) := dk_4 (dk_at dksX3_mayBoth_0 5 rfl rfl)
theorem dX3_mayBoth_6 : decode cX3_mayBoth 6 = .ok (.goto 12, 3) := dk_167 0 12 (dk_at dksX3_mayBoth_0 6 rfl rfl)
theorem dX3_mayBoth_9 : decode cX3_mayBoth 9 = .ok (.iload_n 2, 1) := dk_28 (dk_at dksX3_mayBoth_0 9 rfl rfl)
theorem dX3_mayBoth_10 : decode cX3_mayBoth 10 = .ok (.ifCond .eq 7, 3) := dk_153 0 7 (dk_at dksX3_mayBoth_0 10 rfl rfl)
theorem dX3_mayBoth_13 : decode cX3_mayBoth 13 = .ok (.iconst 0, 1) := dk_3 (dk_at dksX3_mayBoth_0 13 rfl rfl)
theorem dX3_mayBoth_14 : decode cX3_mayBoth 14 = .ok (.goto 4, 3) := dk_167 0 4 (dk_at dksX3_mayBoth_0 14 rfl rfl)
theorem dX3_mayBoth_17 : decode cX3_mayBoth 17 = .ok (.iconst 2, 1) := dk_5 (dk_at dksX3_mayBoth_0 17 rfl rfl)
theorem dX3_mayBoth_18 : decode cX3_mayBoth 18 = .ok (.putfield 1, 3) := dk_181 0 1 (dk_at dksX3_mayBoth_0 18 rfl rfl)
theorem dX3_mayBoth_21 : decode cX3_mayBoth 21 = .ok (.aload_n 0, 1) := dk_42 (dk_at dksX3_mayBoth_0 21 rfl rfl)
theorem dX3_mayBoth_22 : decode cX3_mayBoth 22 = .ok (.getfield 1, 3) := dk_180 0 1 (dk_at dksX3_mayBoth_1 0 rfl rfl)
theorem dX3_mayBoth_25 : decode cX3_mayBoth 25 = .ok (.ifCond .ne 7, 3) := dk_154 0 7 (dk_at dksX3_mayBoth_1 3 rfl rfl)
theorem dX3_mayBoth_28 : decode cX3_mayBoth 28 = .ok (.iconst 1, 1) := dk_4 (dk_at dksX3_mayBoth_1 6 rfl rfl)
theorem dX3_mayBoth_29 : decode cX3_mayBoth 29 = .ok (.goto 4, 3) := dk_167 0 4 (dk_at dksX3_mayBoth_1 7 rfl rfl)
theorem dX3_mayBoth_32 : decode cX3_mayBoth 32 = .ok (.iconst 0, 1) := dk_3 (dk_at dksX3_mayBoth_1 10 rfl rfl)
theorem dX3_mayBoth_33 : decode cX3_mayBoth 33 = .ok (.ireturn, 1) := dk_172 (dk_at dksX3_mayBoth_1 11 rfl rfl)
abbrev cX3_layAll : ByteArray := prog_21_method_31_code
def yX3_layAll : MethodName := ⟨RX3, "layAll", "()V"⟩
def dkwX3_layAll_0 : List UInt8 := [42, 3, 3, 182, 0, 164, 177]
abbrev dktX3_layAll_0 : List UInt8 := dkwX3_layAll_0 ++ []
theorem dksX3_layAll_0 : cX3_layAll.data.toList.drop 0 = dktX3_layAll_0 := by decide +kernel
theorem dX3_layAll_0 : decode cX3_layAll 0 = .ok (.aload_n 0, 1) := dk_42 (dk_at dksX3_layAll_0 0 rfl rfl)
theorem dX3_layAll_1 : decode cX3_layAll 1 = .ok (.iconst 0, 1) := dk_3 (dk_at dksX3_layAll_0 1 rfl rfl)
theorem dX3_layAll_2 : decode cX3_layAll 2 = .ok (.iconst 0, 1) := dk_3 (dk_at dksX3_layAll_0 2 rfl rfl)
theorem dX3_layAll_3 : decode cX3_layAll 3 = .ok (.invokevirtual 164, 3) := dk_182 0 164 (dk_at dksX3_layAll_0 3 rfl rfl)
theorem dX3_layAll_6 : decode cX3_layAll 6 = .ok (.return_, 1) := dk_177 (dk_at dksX3_layAll_0 6 rfl rfl)
abbrev cX3_lays : ByteArray := prog_21_method_30_code
def yX3_lays : MethodName := ⟨RX3, "lays", "(II)V"⟩
def dkwX3_lays_5 : List UInt8 := [180, 0, 67, 21, 5, 92, 51, 21, 4, 128, 84, 132, 5, 1, 167, 255, 219, 132, 3, 1, 167, 255, 159, 177]
abbrev dktX3_lays_5 : List UInt8 := dkwX3_lays_5 ++ []
def dkwX3_lays_4 : List UInt8 := [21, 5, 42, 180, 0, 49, 29, 46, 162, 0, 32, 42, 180, 0, 64, 21, 5, 92, 46, 4, 96, 79, 42]
abbrev dktX3_lays_4 : List UInt8 := dkwX3_lays_4 ++ dktX3_lays_5
def dkwX3_lays_3 : List UInt8 := [182, 0, 129, 4, 160, 0, 7, 4, 167, 0, 4, 3, 54, 4, 42, 180, 0, 46, 29, 46, 4, 96, 54, 5]
abbrev dktX3_lays_3 : List UInt8 := dkwX3_lays_3 ++ dktX3_lays_4
def dkwX3_lays_2 : List UInt8 := [42, 180, 0, 46, 29, 46, 27, 160, 0, 7, 28, 167, 0, 14, 42, 42, 180, 0, 46, 29, 46, 4]
abbrev dktX3_lays_2 : List UInt8 := dkwX3_lays_2 ++ dktX3_lays_3
def dkwX3_lays_1 : List UInt8 := [79, 42, 180, 0, 67, 29, 3, 84, 132, 3, 1, 167, 255, 227, 3, 62, 29, 42, 180, 0, 145, 162, 0, 95]
abbrev dktX3_lays_1 : List UInt8 := dkwX3_lays_1 ++ dktX3_lays_2
def dkwX3_lays_0 : List UInt8 := [42, 182, 0, 161, 3, 62, 29, 42, 180, 0, 13, 3, 46, 4, 96, 163, 0, 23, 42, 180, 0, 64, 29, 3]
abbrev dktX3_lays_0 : List UInt8 := dkwX3_lays_0 ++ dktX3_lays_1
theorem dksX3_lays_0 : cX3_lays.data.toList.drop 0 = dktX3_lays_0 := by decide +kernel
theorem dksX3_lays_1 : cX3_lays.data.toList.drop 24 = dktX3_lays_1 := dk_seg dksX3_lays_0 24 rfl rfl
theorem dksX3_lays_2 : cX3_lays.data.toList.drop 48 = dktX3_lays_2 := dk_seg dksX3_lays_1 24 rfl rfl
theorem dksX3_lays_3 : cX3_lays.data.toList.drop 70 = dktX3_lays_3 := dk_seg dksX3_lays_2 22 rfl rfl
theorem dksX3_lays_4 : cX3_lays.data.toList.drop 94 = dktX3_lays_4 := dk_seg dksX3_lays_3 24 rfl rfl
theorem dksX3_lays_5 : cX3_lays.data.toList.drop 117 = dktX3_lays_5 := dk_seg dksX3_lays_4 23 rfl rfl
theorem dX3_lays_0 : decode cX3_lays 0 = .ok (.aload_n 0, 1) := dk_42 (dk_at dksX3_lays_0 0 rfl rfl)
theorem dX3_lays_1 : decode cX3_lays 1 = .ok (.invokevirtual 161, 3) := dk_182 0 161 (dk_at dksX3_lays_0 1 rfl rfl)
theorem dX3_lays_4 : decode cX3_lays 4 = .ok (.iconst 0, 1) := dk_3 (dk_at dksX3_lays_0 4 rfl rfl)
theorem dX3_lays_5 : decode cX3_lays 5 = .ok (.istore_n 3, 1) := dk_62 (dk_at dksX3_lays_0 5 rfl rfl)
theorem dX3_lays_6 : decode cX3_lays 6 = .ok (.iload_n 3, 1) := dk_29 (dk_at dksX3_lays_0 6 rfl rfl)
theorem dX3_lays_7 : decode cX3_lays 7 = .ok (.aload_n 0, 1) := dk_42 (dk_at dksX3_lays_0 7 rfl rfl)
theorem dX3_lays_8 : decode cX3_lays 8 = .ok (.getfield 13, 3) := dk_180 0 13 (dk_at dksX3_lays_0 8 rfl rfl)
theorem dX3_lays_11 : decode cX3_lays 11 = .ok (.iconst 0, 1) := dk_3 (dk_at dksX3_lays_0 11 rfl rfl)
theorem dX3_lays_12 : decode cX3_lays 12 = .ok (.iaload, 1) := dk_46 (dk_at dksX3_lays_0 12 rfl rfl)
theorem dX3_lays_13 : decode cX3_lays 13 = .ok (.iconst 1, 1) := dk_4 (dk_at dksX3_lays_0 13 rfl rfl)
theorem dX3_lays_14 : decode cX3_lays 14 = .ok (.iadd, 1) := dk_96 (dk_at dksX3_lays_0 14 rfl rfl)
theorem dX3_lays_15 : decode cX3_lays 15 = .ok (.if_icmp .gt 23, 3) := dk_163 0 23 (dk_at dksX3_lays_0 15 rfl rfl)
theorem dX3_lays_18 : decode cX3_lays 18 = .ok (.aload_n 0, 1) := dk_42 (dk_at dksX3_lays_0 18 rfl rfl)
theorem dX3_lays_19 : decode cX3_lays 19 = .ok (.getfield 64, 3) := dk_180 0 64 (dk_at dksX3_lays_0 19 rfl rfl)
theorem dX3_lays_22 : decode cX3_lays 22 = .ok (.iload_n 3, 1) := dk_29 (dk_at dksX3_lays_0 22 rfl rfl)
theorem dX3_lays_23 : decode cX3_lays 23 = .ok (.iconst 0, 1) := dk_3 (dk_at dksX3_lays_0 23 rfl rfl)
theorem dX3_lays_24 : decode cX3_lays 24 = .ok (.iastore, 1) := dk_79 (dk_at dksX3_lays_1 0 rfl rfl)
theorem dX3_lays_25 : decode cX3_lays 25 = .ok (.aload_n 0, 1) := dk_42 (dk_at dksX3_lays_1 1 rfl rfl)
theorem dX3_lays_26 : decode cX3_lays 26 = .ok (.getfield 67, 3) := dk_180 0 67 (dk_at dksX3_lays_1 2 rfl rfl)
theorem dX3_lays_29 : decode cX3_lays 29 = .ok (.iload_n 3, 1) := dk_29 (dk_at dksX3_lays_1 5 rfl rfl)
theorem dX3_lays_30 : decode cX3_lays 30 = .ok (.iconst 0, 1) := dk_3 (dk_at dksX3_lays_1 6 rfl rfl)
theorem dX3_lays_31 : decode cX3_lays 31 = .ok (.bastore, 1) := dk_84 (dk_at dksX3_lays_1 7 rfl rfl)
theorem dX3_lays_32 : decode cX3_lays 32 = .ok (.iinc 3 1, 3) := dk_132 3 1 (dk_at dksX3_lays_1 8 rfl rfl)
theorem dX3_lays_35 : decode cX3_lays 35 = .ok (.goto (-29), 3) := dk_167 255 227 (dk_at dksX3_lays_1 11 rfl rfl)
theorem dX3_lays_38 : decode cX3_lays 38 = .ok (.iconst 0, 1) := dk_3 (dk_at dksX3_lays_1 14 rfl rfl)
theorem dX3_lays_39 : decode cX3_lays 39 = .ok (.istore_n 3, 1) := dk_62 (dk_at dksX3_lays_1 15 rfl rfl)
theorem dX3_lays_40 : decode cX3_lays 40 = .ok (.iload_n 3, 1) := dk_29 (dk_at dksX3_lays_1 16 rfl rfl)
theorem dX3_lays_41 : decode cX3_lays 41 = .ok (.aload_n 0, 1) := dk_42 (dk_at dksX3_lays_1 17 rfl rfl)
theorem dX3_lays_42 : decode cX3_lays 42 = .ok (.getfield 145, 3) := dk_180 0 145 (dk_at dksX3_lays_1 18 rfl rfl)
theorem dX3_lays_45 : decode cX3_lays 45 = .ok (.if_icmp .ge 95, 3) := dk_162 0 95 (dk_at dksX3_lays_1 21 rfl rfl)
theorem dX3_lays_48 : decode cX3_lays 48 = .ok (.aload_n 0, 1) := dk_42 (dk_at dksX3_lays_2 0 rfl rfl)
theorem dX3_lays_49 : decode cX3_lays 49 = .ok (.getfield 46, 3) := dk_180 0 46 (dk_at dksX3_lays_2 1 rfl rfl)
theorem dX3_lays_52 : decode cX3_lays 52 = .ok (.iload_n 3, 1) := dk_29 (dk_at dksX3_lays_2 4 rfl rfl)
theorem dX3_lays_53 : decode cX3_lays 53 = .ok (.iaload, 1) := dk_46 (dk_at dksX3_lays_2 5 rfl rfl)
theorem dX3_lays_54 : decode cX3_lays 54 = .ok (.iload_n 1, 1) := dk_27 (dk_at dksX3_lays_2 6 rfl rfl)
theorem dX3_lays_55 : decode cX3_lays 55 = .ok (.if_icmp .ne 7, 3) := dk_160 0 7 (dk_at dksX3_lays_2 7 rfl rfl)
theorem dX3_lays_58 : decode cX3_lays 58 = .ok (.iload_n 2, 1) := dk_28 (dk_at dksX3_lays_2 10 rfl rfl)
theorem dX3_lays_59 : decode cX3_lays 59 = .ok (.goto 14, 3) := dk_167 0 14 (dk_at dksX3_lays_2 11 rfl rfl)
theorem dX3_lays_62 : decode cX3_lays 62 = .ok (.aload_n 0, 1) := dk_42 (dk_at dksX3_lays_2 14 rfl rfl)
theorem dX3_lays_63 : decode cX3_lays 63 = .ok (.aload_n 0, 1) := dk_42 (dk_at dksX3_lays_2 15 rfl rfl)
theorem dX3_lays_64 : decode cX3_lays 64 = .ok (.getfield 46, 3) := dk_180 0 46 (dk_at dksX3_lays_2 16 rfl rfl)
theorem dX3_lays_67 : decode cX3_lays 67 = .ok (.iload_n 3, 1) := dk_29 (dk_at dksX3_lays_2 19 rfl rfl)
theorem dX3_lays_68 : decode cX3_lays 68 = .ok (.iaload, 1) := dk_46 (dk_at dksX3_lays_2 20 rfl rfl)
theorem dX3_lays_69 : decode cX3_lays 69 = .ok (.iconst 1, 1) := dk_4 (dk_at dksX3_lays_2 21 rfl rfl)
theorem dX3_lays_70 : decode cX3_lays 70 = .ok (.invokevirtual 129, 3) := dk_182 0 129 (dk_at dksX3_lays_3 0 rfl rfl)
theorem dX3_lays_73 : decode cX3_lays 73 = .ok (.iconst 1, 1) := dk_4 (dk_at dksX3_lays_3 3 rfl rfl)
theorem dX3_lays_74 : decode cX3_lays 74 = .ok (.if_icmp .ne 7, 3) := dk_160 0 7 (dk_at dksX3_lays_3 4 rfl rfl)
theorem dX3_lays_77 : decode cX3_lays 77 = .ok (.iconst 1, 1) := dk_4 (dk_at dksX3_lays_3 7 rfl rfl)
theorem dX3_lays_78 : decode cX3_lays 78 = .ok (.goto 4, 3) := dk_167 0 4 (dk_at dksX3_lays_3 8 rfl rfl)
theorem dX3_lays_81 : decode cX3_lays 81 = .ok (.iconst 0, 1) := dk_3 (dk_at dksX3_lays_3 11 rfl rfl)
theorem dX3_lays_82 : decode cX3_lays 82 = .ok (.istore 4, 2) := dk_54 4 (dk_at dksX3_lays_3 12 rfl rfl)
theorem dX3_lays_84 : decode cX3_lays 84 = .ok (.aload_n 0, 1) := dk_42 (dk_at dksX3_lays_3 14 rfl rfl)
theorem dX3_lays_85 : decode cX3_lays 85 = .ok (.getfield 46, 3) := dk_180 0 46 (dk_at dksX3_lays_3 15 rfl rfl)
theorem dX3_lays_88 : decode cX3_lays 88 = .ok (.iload_n 3, 1) := dk_29 (dk_at dksX3_lays_3 18 rfl rfl)
theorem dX3_lays_89 : decode cX3_lays 89 = .ok (.iaload, 1) := dk_46 (dk_at dksX3_lays_3 19 rfl rfl)
theorem dX3_lays_90 : decode cX3_lays 90 = .ok (.iconst 1, 1) := dk_4 (dk_at dksX3_lays_3 20 rfl rfl)
theorem dX3_lays_91 : decode cX3_lays 91 = .ok (.iadd, 1) := dk_96 (dk_at dksX3_lays_3 21 rfl rfl)
theorem dX3_lays_92 : decode cX3_lays 92 = .ok (.istore 5, 2) := dk_54 5 (dk_at dksX3_lays_3 22 rfl rfl)
theorem dX3_lays_94 : decode cX3_lays 94 = .ok (.iload 5, 2) := dk_21 5 (dk_at dksX3_lays_4 0 rfl rfl)
theorem dX3_lays_96 : decode cX3_lays 96 = .ok (.aload_n 0, 1) := dk_42 (dk_at dksX3_lays_4 2 rfl rfl)
theorem dX3_lays_97 : decode cX3_lays 97 = .ok (.getfield 49, 3) := dk_180 0 49 (dk_at dksX3_lays_4 3 rfl rfl)
theorem dX3_lays_100 : decode cX3_lays 100 = .ok (.iload_n 3, 1) := dk_29 (dk_at dksX3_lays_4 6 rfl rfl)
theorem dX3_lays_101 : decode cX3_lays 101 = .ok (.iaload, 1) := dk_46 (dk_at dksX3_lays_4 7 rfl rfl)
theorem dX3_lays_102 : decode cX3_lays 102 = .ok (.if_icmp .ge 32, 3) := dk_162 0 32 (dk_at dksX3_lays_4 8 rfl rfl)
theorem dX3_lays_105 : decode cX3_lays 105 = .ok (.aload_n 0, 1) := dk_42 (dk_at dksX3_lays_4 11 rfl rfl)
theorem dX3_lays_106 : decode cX3_lays 106 = .ok (.getfield 64, 3) := dk_180 0 64 (dk_at dksX3_lays_4 12 rfl rfl)
theorem dX3_lays_109 : decode cX3_lays 109 = .ok (.iload 5, 2) := dk_21 5 (dk_at dksX3_lays_4 15 rfl rfl)
theorem dX3_lays_111 : decode cX3_lays 111 = .ok (.dup2, 1) := dk_92 (dk_at dksX3_lays_4 17 rfl rfl)
theorem dX3_lays_112 : decode cX3_lays 112 = .ok (.iaload, 1) := dk_46 (dk_at dksX3_lays_4 18 rfl rfl)
theorem dX3_lays_113 : decode cX3_lays 113 = .ok (.iconst 1, 1) := dk_4 (dk_at dksX3_lays_4 19 rfl rfl)
theorem dX3_lays_114 : decode cX3_lays 114 = .ok (.iadd, 1) := dk_96 (dk_at dksX3_lays_4 20 rfl rfl)
theorem dX3_lays_115 : decode cX3_lays 115 = .ok (.iastore, 1) := dk_79 (dk_at dksX3_lays_4 21 rfl rfl)
theorem dX3_lays_116 : decode cX3_lays 116 = .ok (.aload_n 0, 1) := dk_42 (dk_at dksX3_lays_4 22 rfl rfl)
theorem dX3_lays_117 : decode cX3_lays 117 = .ok (.getfield 67, 3) := dk_180 0 67 (dk_at dksX3_lays_5 0 rfl rfl)
theorem dX3_lays_120 : decode cX3_lays 120 = .ok (.iload 5, 2) := dk_21 5 (dk_at dksX3_lays_5 3 rfl rfl)
theorem dX3_lays_122 : decode cX3_lays 122 = .ok (.dup2, 1) := dk_92 (dk_at dksX3_lays_5 5 rfl rfl)
theorem dX3_lays_123 : decode cX3_lays 123 = .ok (.baload, 1) := dk_51 (dk_at dksX3_lays_5 6 rfl rfl)
theorem dX3_lays_124 : decode cX3_lays 124 = .ok (.iload 4, 2) := dk_21 4 (dk_at dksX3_lays_5 7 rfl rfl)
theorem dX3_lays_126 : decode cX3_lays 126 = .ok (.ior, 1) := dk_128 (dk_at dksX3_lays_5 9 rfl rfl)
theorem dX3_lays_127 : decode cX3_lays 127 = .ok (.bastore, 1) := dk_84 (dk_at dksX3_lays_5 10 rfl rfl)
theorem dX3_lays_128 : decode cX3_lays 128 = .ok (.iinc 5 1, 3) := dk_132 5 1 (dk_at dksX3_lays_5 11 rfl rfl)
theorem dX3_lays_131 : decode cX3_lays 131 = .ok (.goto (-37), 3) := dk_167 255 219 (dk_at dksX3_lays_5 14 rfl rfl)
theorem dX3_lays_134 : decode cX3_lays 134 = .ok (.iinc 3 1, 3) := dk_132 3 1 (dk_at dksX3_lays_5 17 rfl rfl)
theorem dX3_lays_137 : decode cX3_lays 137 = .ok (.goto (-97), 3) := dk_167 255 159 (dk_at dksX3_lays_5 20 rfl rfl)
theorem dX3_lays_140 : decode cX3_lays 140 = .ok (.return_, 1) := dk_177 (dk_at dksX3_lays_5 23 rfl rfl)
abbrev cX3_laysRegions : ByteArray := prog_21_method_29_code
def yX3_laysRegions : MethodName := ⟨RX3, "laysRegions", "()V"⟩
def dkwX3_laysRegions_5 : List UInt8 := [177]
abbrev dktX3_laysRegions_5 : List UInt8 := dkwX3_laysRegions_5 ++ []
def dkwX3_laysRegions_4 : List UInt8 := [182, 0, 158, 132, 1, 1, 167, 0, 6, 132, 1, 255, 132, 3, 1, 167, 255, 172, 132, 2, 1, 167, 255, 154]
abbrev dktX3_laysRegions_4 : List UInt8 := dkwX3_laysRegions_4 ++ dktX3_laysRegions_5
def dkwX3_laysRegions_3 : List UInt8 := [28, 160, 0, 6, 167, 0, 31, 42, 180, 0, 37, 21, 4, 46, 21, 4, 164, 0, 16, 42, 21, 4, 27]
abbrev dktX3_laysRegions_3 : List UInt8 := dkwX3_laysRegions_3 ++ dktX3_laysRegions_4
def dkwX3_laysRegions_2 : List UInt8 := [153, 0, 59, 42, 180, 0, 37, 21, 4, 46, 2, 159, 0, 48, 42, 180, 0, 37, 21, 4, 46, 184, 0, 148]
abbrev dktX3_laysRegions_2 : List UInt8 := dkwX3_laysRegions_2 ++ dktX3_laysRegions_3
def dkwX3_laysRegions_1 : List UInt8 := [62, 29, 42, 28, 182, 0, 139, 162, 0, 81, 28, 29, 184, 0, 142, 54, 4, 42, 28, 29, 182, 0, 154]
abbrev dktX3_laysRegions_1 : List UInt8 := dkwX3_laysRegions_1 ++ dktX3_laysRegions_2
def dkwX3_laysRegions_0 : List UInt8 := [42, 182, 0, 151, 42, 3, 181, 0, 145, 3, 60, 4, 61, 28, 42, 180, 0, 13, 3, 46, 163, 0, 98, 3]
abbrev dktX3_laysRegions_0 : List UInt8 := dkwX3_laysRegions_0 ++ dktX3_laysRegions_1
theorem dksX3_laysRegions_0 : cX3_laysRegions.data.toList.drop 0 = dktX3_laysRegions_0 := by decide +kernel
theorem dksX3_laysRegions_1 : cX3_laysRegions.data.toList.drop 24 = dktX3_laysRegions_1 := dk_seg dksX3_laysRegions_0 24 rfl rfl
theorem dksX3_laysRegions_2 : cX3_laysRegions.data.toList.drop 47 = dktX3_laysRegions_2 := dk_seg dksX3_laysRegions_1 23 rfl rfl
theorem dksX3_laysRegions_3 : cX3_laysRegions.data.toList.drop 71 = dktX3_laysRegions_3 := dk_seg dksX3_laysRegions_2 24 rfl rfl
theorem dksX3_laysRegions_4 : cX3_laysRegions.data.toList.drop 94 = dktX3_laysRegions_4 := dk_seg dksX3_laysRegions_3 23 rfl rfl
theorem dksX3_laysRegions_5 : cX3_laysRegions.data.toList.drop 118 = dktX3_laysRegions_5 := dk_seg dksX3_laysRegions_4 24 rfl rfl
theorem dX3_laysRegions_0 : decode cX3_laysRegions 0 = .ok (.aload_n 0, 1) := dk_42 (dk_at dksX3_laysRegions_0 0 rfl rfl)
theorem dX3_laysRegions_1 : decode cX3_laysRegions 1 = .ok (.invokevirtual 151, 3) := dk_182 0 151 (dk_at dksX3_laysRegions_0 1 rfl rfl)
theorem dX3_laysRegions_4 : decode cX3_laysRegions 4 = .ok (.aload_n 0, 1) := dk_42 (dk_at dksX3_laysRegions_0 4 rfl rfl)
theorem dX3_laysRegions_5 : decode cX3_laysRegions 5 = .ok (.iconst 0, 1) := dk_3 (dk_at dksX3_laysRegions_0 5 rfl rfl)
theorem dX3_laysRegions_6 : decode cX3_laysRegions 6 = .ok (.putfield 145, 3) := dk_181 0 145 (dk_at dksX3_laysRegions_0 6 rfl rfl)
theorem dX3_laysRegions_9 : decode cX3_laysRegions 9 = .ok (.iconst 0, 1) := dk_3 (dk_at dksX3_laysRegions_0 9 rfl rfl)
theorem dX3_laysRegions_10 : decode cX3_laysRegions 10 = .ok (.istore_n 1, 1) := dk_60 (dk_at dksX3_laysRegions_0 10 rfl rfl)
theorem dX3_laysRegions_11 : decode cX3_laysRegions 11 = .ok (.iconst 1, 1) := dk_4 (dk_at dksX3_laysRegions_0 11 rfl rfl)
theorem dX3_laysRegions_12 : decode cX3_laysRegions 12 = .ok (.istore_n 2, 1) := dk_61 (dk_at dksX3_laysRegions_0 12 rfl rfl)
theorem dX3_laysRegions_13 : decode cX3_laysRegions 13 = .ok (.iload_n 2, 1) := dk_28 (dk_at dksX3_laysRegions_0 13 rfl rfl)
theorem dX3_laysRegions_14 : decode cX3_laysRegions 14 = .ok (.aload_n 0, 1) := dk_42 (dk_at dksX3_laysRegions_0 14 rfl rfl)
theorem dX3_laysRegions_15 : decode cX3_laysRegions 15 = .ok (.getfield 13, 3) := dk_180 0 13 (dk_at dksX3_laysRegions_0 15 rfl rfl)
theorem dX3_laysRegions_18 : decode cX3_laysRegions 18 = .ok (.iconst 0, 1) := dk_3 (dk_at dksX3_laysRegions_0 18 rfl rfl)
theorem dX3_laysRegions_19 : decode cX3_laysRegions 19 = .ok (.iaload, 1) := dk_46 (dk_at dksX3_laysRegions_0 19 rfl rfl)
theorem dX3_laysRegions_20 : decode cX3_laysRegions 20 = .ok (.if_icmp .gt 98, 3) := dk_163 0 98 (dk_at dksX3_laysRegions_0 20 rfl rfl)
theorem dX3_laysRegions_23 : decode cX3_laysRegions 23 = .ok (.iconst 0, 1) := dk_3 (dk_at dksX3_laysRegions_0 23 rfl rfl)
theorem dX3_laysRegions_24 : decode cX3_laysRegions 24 = .ok (.istore_n 3, 1) := dk_62 (dk_at dksX3_laysRegions_1 0 rfl rfl)
theorem dX3_laysRegions_25 : decode cX3_laysRegions 25 = .ok (.iload_n 3, 1) := dk_29 (dk_at dksX3_laysRegions_1 1 rfl rfl)
theorem dX3_laysRegions_26 : decode cX3_laysRegions 26 = .ok (.aload_n 0, 1) := dk_42 (dk_at dksX3_laysRegions_1 2 rfl rfl)
theorem dX3_laysRegions_27 : decode cX3_laysRegions 27 = .ok (.iload_n 2, 1) := dk_28 (dk_at dksX3_laysRegions_1 3 rfl rfl)
theorem dX3_laysRegions_28 : decode cX3_laysRegions 28 = .ok (.invokevirtual 139, 3) := dk_182 0 139 (dk_at dksX3_laysRegions_1 4 rfl rfl)
theorem dX3_laysRegions_31 : decode cX3_laysRegions 31 = .ok (.if_icmp .ge 81, 3) := dk_162 0 81 (dk_at dksX3_laysRegions_1 7 rfl rfl)
theorem dX3_laysRegions_34 : decode cX3_laysRegions 34 = .ok (.iload_n 2, 1) := dk_28 (dk_at dksX3_laysRegions_1 10 rfl rfl)
theorem dX3_laysRegions_35 : decode cX3_laysRegions 35 = .ok (.iload_n 3, 1) := dk_29 (dk_at dksX3_laysRegions_1 11 rfl rfl)
theorem dX3_laysRegions_36 : decode cX3_laysRegions 36 = .ok (.invokestatic 142, 3) := dk_184 0 142 (dk_at dksX3_laysRegions_1 12 rfl rfl)
theorem dX3_laysRegions_39 : decode cX3_laysRegions 39 = .ok (.istore 4, 2) := dk_54 4 (dk_at dksX3_laysRegions_1 15 rfl rfl)
theorem dX3_laysRegions_41 : decode cX3_laysRegions 41 = .ok (.aload_n 0, 1) := dk_42 (dk_at dksX3_laysRegions_1 17 rfl rfl)
theorem dX3_laysRegions_42 : decode cX3_laysRegions 42 = .ok (.iload_n 2, 1) := dk_28 (dk_at dksX3_laysRegions_1 18 rfl rfl)
theorem dX3_laysRegions_43 : decode cX3_laysRegions 43 = .ok (.iload_n 3, 1) := dk_29 (dk_at dksX3_laysRegions_1 19 rfl rfl)
theorem dX3_laysRegions_44 : decode cX3_laysRegions 44 = .ok (.invokevirtual 154, 3) := dk_182 0 154 (dk_at dksX3_laysRegions_1 20 rfl rfl)
theorem dX3_laysRegions_47 : decode cX3_laysRegions 47 = .ok (.ifCond .eq 59, 3) := dk_153 0 59 (dk_at dksX3_laysRegions_2 0 rfl rfl)
theorem dX3_laysRegions_50 : decode cX3_laysRegions 50 = .ok (.aload_n 0, 1) := dk_42 (dk_at dksX3_laysRegions_2 3 rfl rfl)
theorem dX3_laysRegions_51 : decode cX3_laysRegions 51 = .ok (.getfield 37, 3) := dk_180 0 37 (dk_at dksX3_laysRegions_2 4 rfl rfl)
theorem dX3_laysRegions_54 : decode cX3_laysRegions 54 = .ok (.iload 4, 2) := dk_21 4 (dk_at dksX3_laysRegions_2 7 rfl rfl)
theorem dX3_laysRegions_56 : decode cX3_laysRegions 56 = .ok (.iaload, 1) := dk_46 (dk_at dksX3_laysRegions_2 9 rfl rfl)
theorem dX3_laysRegions_57 : decode cX3_laysRegions 57 = .ok (.iconst (-1), 1) := dk_2 (dk_at dksX3_laysRegions_2 10 rfl rfl)
theorem dX3_laysRegions_58 : decode cX3_laysRegions 58 = .ok (.if_icmp .eq 48, 3) := dk_159 0 48 (dk_at dksX3_laysRegions_2 11 rfl rfl)
theorem dX3_laysRegions_61 : decode cX3_laysRegions 61 = .ok (.aload_n 0, 1) := dk_42 (dk_at dksX3_laysRegions_2 14 rfl rfl)
theorem dX3_laysRegions_62 : decode cX3_laysRegions 62 = .ok (.getfield 37, 3) := dk_180 0 37 (dk_at dksX3_laysRegions_2 15 rfl rfl)
theorem dX3_laysRegions_65 : decode cX3_laysRegions 65 = .ok (.iload 4, 2) := dk_21 4 (dk_at dksX3_laysRegions_2 18 rfl rfl)
theorem dX3_laysRegions_67 : decode cX3_laysRegions 67 = .ok (.iaload, 1) := dk_46 (dk_at dksX3_laysRegions_2 20 rfl rfl)
theorem dX3_laysRegions_68 : decode cX3_laysRegions 68 = .ok (.invokestatic 148, 3) := dk_184 0 148 (dk_at dksX3_laysRegions_2 21 rfl rfl)
theorem dX3_laysRegions_71 : decode cX3_laysRegions 71 = .ok (.iload_n 2, 1) := dk_28 (dk_at dksX3_laysRegions_3 0 rfl rfl)
theorem dX3_laysRegions_72 : decode cX3_laysRegions 72 = .ok (.if_icmp .ne 6, 3) := dk_160 0 6 (dk_at dksX3_laysRegions_3 1 rfl rfl)
theorem dX3_laysRegions_75 : decode cX3_laysRegions 75 = .ok (.goto 31, 3) := dk_167 0 31 (dk_at dksX3_laysRegions_3 4 rfl rfl)
theorem dX3_laysRegions_78 : decode cX3_laysRegions 78 = .ok (.aload_n 0, 1) := dk_42 (dk_at dksX3_laysRegions_3 7 rfl rfl)
theorem dX3_laysRegions_79 : decode cX3_laysRegions 79 = .ok (.getfield 37, 3) := dk_180 0 37 (dk_at dksX3_laysRegions_3 8 rfl rfl)
theorem dX3_laysRegions_82 : decode cX3_laysRegions 82 = .ok (.iload 4, 2) := dk_21 4 (dk_at dksX3_laysRegions_3 11 rfl rfl)
theorem dX3_laysRegions_84 : decode cX3_laysRegions 84 = .ok (.iaload, 1) := dk_46 (dk_at dksX3_laysRegions_3 13 rfl rfl)
theorem dX3_laysRegions_85 : decode cX3_laysRegions 85 = .ok (.iload 4, 2) := dk_21 4 (dk_at dksX3_laysRegions_3 14 rfl rfl)
theorem dX3_laysRegions_87 : decode cX3_laysRegions 87 = .ok (.if_icmp .le 16, 3) := dk_164 0 16 (dk_at dksX3_laysRegions_3 16 rfl rfl)
theorem dX3_laysRegions_90 : decode cX3_laysRegions 90 = .ok (.aload_n 0, 1) := dk_42 (dk_at dksX3_laysRegions_3 19 rfl rfl)
theorem dX3_laysRegions_91 : decode cX3_laysRegions 91 = .ok (.iload 4, 2) := dk_21 4 (dk_at dksX3_laysRegions_3 20 rfl rfl)
theorem dX3_laysRegions_93 : decode cX3_laysRegions 93 = .ok (.iload_n 1, 1) := dk_27 (dk_at dksX3_laysRegions_3 22 rfl rfl)
theorem dX3_laysRegions_94 : decode cX3_laysRegions 94 = .ok (.invokevirtual 158, 3) := dk_182 0 158 (dk_at dksX3_laysRegions_4 0 rfl rfl)
theorem dX3_laysRegions_97 : decode cX3_laysRegions 97 = .ok (.iinc 1 1, 3) := dk_132 1 1 (dk_at dksX3_laysRegions_4 3 rfl rfl)
theorem dX3_laysRegions_100 : decode cX3_laysRegions 100 = .ok (.goto 6, 3) := dk_167 0 6 (dk_at dksX3_laysRegions_4 6 rfl rfl)
theorem dX3_laysRegions_103 : decode cX3_laysRegions 103 = .ok (.iinc 1 (-1), 3) := dk_132 1 255 (dk_at dksX3_laysRegions_4 9 rfl rfl)
theorem dX3_laysRegions_106 : decode cX3_laysRegions 106 = .ok (.iinc 3 1, 3) := dk_132 3 1 (dk_at dksX3_laysRegions_4 12 rfl rfl)
theorem dX3_laysRegions_109 : decode cX3_laysRegions 109 = .ok (.goto (-84), 3) := dk_167 255 172 (dk_at dksX3_laysRegions_4 15 rfl rfl)
theorem dX3_laysRegions_112 : decode cX3_laysRegions 112 = .ok (.iinc 2 1, 3) := dk_132 2 1 (dk_at dksX3_laysRegions_4 18 rfl rfl)
theorem dX3_laysRegions_115 : decode cX3_laysRegions 115 = .ok (.goto (-102), 3) := dk_167 255 154 (dk_at dksX3_laysRegions_4 21 rfl rfl)
theorem dX3_laysRegions_118 : decode cX3_laysRegions 118 = .ok (.return_, 1) := dk_177 (dk_at dksX3_laysRegions_5 0 rfl rfl)
abbrev cX3_laysMates : ByteArray := prog_21_method_27_code
def yX3_laysMates : MethodName := ⟨RX3, "laysMates", "()V"⟩
def dkwX3_laysMates_6 : List UInt8 := [167, 255, 136, 132, 2, 1, 167, 255, 118, 42, 89, 180, 0, 136, 27, 96, 181, 0, 136, 177]
abbrev dktX3_laysMates_6 : List UInt8 := dkwX3_laysMates_6 ++ []
def dkwX3_laysMates_5 : List UInt8 := [29, 182, 0, 133, 16, 125, 160, 0, 13, 42, 89, 180, 0, 136, 4, 96, 181, 0, 136, 132, 3, 1]
abbrev dktX3_laysMates_5 : List UInt8 := dkwX3_laysMates_5 ++ dktX3_laysMates_6
def dkwX3_laysMates_4 : List UInt8 := [180, 0, 40, 27, 46, 79, 42, 180, 0, 37, 42, 180, 0, 40, 27, 46, 21, 4, 79, 167, 0, 24, 42, 28]
abbrev dktX3_laysMates_4 : List UInt8 := dkwX3_laysMates_4 ++ dktX3_laysMates_5
def dkwX3_laysMates_3 : List UInt8 := [29, 182, 0, 133, 16, 125, 160, 0, 39, 27, 158, 0, 35, 132, 1, 255, 42, 180, 0, 37, 21, 4, 42]
abbrev dktX3_laysMates_3 : List UInt8 := dkwX3_laysMates_3 ++ dktX3_laysMates_4
def dkwX3_laysMates_2 : List UInt8 := [182, 0, 133, 16, 123, 160, 0, 17, 42, 180, 0, 40, 27, 21, 4, 79, 132, 1, 1, 167, 0, 71, 42, 28]
abbrev dktX3_laysMates_2 : List UInt8 := dkwX3_laysMates_2 ++ dktX3_laysMates_3
def dkwX3_laysMates_1 : List UInt8 := [182, 0, 139, 162, 0, 117, 28, 29, 184, 0, 142, 54, 4, 42, 180, 0, 37, 21, 4, 2, 79, 42, 28, 29]
abbrev dktX3_laysMates_1 : List UInt8 := dkwX3_laysMates_1 ++ dktX3_laysMates_2
def dkwX3_laysMates_0 : List UInt8 := [3, 60, 42, 3, 181, 0, 136, 4, 61, 28, 42, 180, 0, 13, 3, 46, 163, 0, 134, 3, 62, 29, 42, 28]
abbrev dktX3_laysMates_0 : List UInt8 := dkwX3_laysMates_0 ++ dktX3_laysMates_1
theorem dksX3_laysMates_0 : cX3_laysMates.data.toList.drop 0 = dktX3_laysMates_0 := by decide +kernel
theorem dksX3_laysMates_1 : cX3_laysMates.data.toList.drop 24 = dktX3_laysMates_1 := dk_seg dksX3_laysMates_0 24 rfl rfl
theorem dksX3_laysMates_2 : cX3_laysMates.data.toList.drop 48 = dktX3_laysMates_2 := dk_seg dksX3_laysMates_1 24 rfl rfl
theorem dksX3_laysMates_3 : cX3_laysMates.data.toList.drop 72 = dktX3_laysMates_3 := dk_seg dksX3_laysMates_2 24 rfl rfl
theorem dksX3_laysMates_4 : cX3_laysMates.data.toList.drop 95 = dktX3_laysMates_4 := dk_seg dksX3_laysMates_3 23 rfl rfl
theorem dksX3_laysMates_5 : cX3_laysMates.data.toList.drop 119 = dktX3_laysMates_5 := dk_seg dksX3_laysMates_4 24 rfl rfl
theorem dksX3_laysMates_6 : cX3_laysMates.data.toList.drop 141 = dktX3_laysMates_6 := dk_seg dksX3_laysMates_5 22 rfl rfl
theorem dX3_laysMates_0 : decode cX3_laysMates 0 = .ok (.iconst 0, 1) := dk_3 (dk_at dksX3_laysMates_0 0 rfl rfl)
theorem dX3_laysMates_1 : decode cX3_laysMates 1 = .ok (.istore_n 1, 1) := dk_60 (dk_at dksX3_laysMates_0 1 rfl rfl)
theorem dX3_laysMates_2 : decode cX3_laysMates 2 = .ok (.aload_n 0, 1) := dk_42 (dk_at dksX3_laysMates_0 2 rfl rfl)
theorem dX3_laysMates_3 : decode cX3_laysMates 3 = .ok (.iconst 0, 1) := dk_3 (dk_at dksX3_laysMates_0 3 rfl rfl)
theorem dX3_laysMates_4 : decode cX3_laysMates 4 = .ok (.putfield 136, 3) := dk_181 0 136 (dk_at dksX3_laysMates_0 4 rfl rfl)
theorem dX3_laysMates_7 : decode cX3_laysMates 7 = .ok (.iconst 1, 1) := dk_4 (dk_at dksX3_laysMates_0 7 rfl rfl)
theorem dX3_laysMates_8 : decode cX3_laysMates 8 = .ok (.istore_n 2, 1) := dk_61 (dk_at dksX3_laysMates_0 8 rfl rfl)
theorem dX3_laysMates_9 : decode cX3_laysMates 9 = .ok (.iload_n 2, 1) := dk_28 (dk_at dksX3_laysMates_0 9 rfl rfl)
theorem dX3_laysMates_10 : decode cX3_laysMates 10 = .ok (.aload_n 0, 1) := dk_42 (dk_at dksX3_laysMates_0 10 rfl rfl)
theorem dX3_laysMates_11 : decode cX3_laysMates 11 = .ok (.getfield 13, 3) := dk_180 0 13 (dk_at dksX3_laysMates_0 11 rfl rfl)
theorem dX3_laysMates_14 : decode cX3_laysMates 14 = .ok (.iconst 0, 1) := dk_3 (dk_at dksX3_laysMates_0 14 rfl rfl)
theorem dX3_laysMates_15 : decode cX3_laysMates 15 = .ok (.iaload, 1) := dk_46 (dk_at dksX3_laysMates_0 15 rfl rfl)
theorem dX3_laysMates_16 : decode cX3_laysMates 16 = .ok (.if_icmp .gt 134, 3) := dk_163 0 134 (dk_at dksX3_laysMates_0 16 rfl rfl)
theorem dX3_laysMates_19 : decode cX3_laysMates 19 = .ok (.iconst 0, 1) := dk_3 (dk_at dksX3_laysMates_0 19 rfl rfl)
theorem dX3_laysMates_20 : decode cX3_laysMates 20 = .ok (.istore_n 3, 1) := dk_62 (dk_at dksX3_laysMates_0 20 rfl rfl)
theorem dX3_laysMates_21 : decode cX3_laysMates 21 = .ok (.iload_n 3, 1) := dk_29 (dk_at dksX3_laysMates_0 21 rfl rfl)
theorem dX3_laysMates_22 : decode cX3_laysMates 22 = .ok (.aload_n 0, 1) := dk_42 (dk_at dksX3_laysMates_0 22 rfl rfl)
theorem dX3_laysMates_23 : decode cX3_laysMates 23 = .ok (.iload_n 2, 1) := dk_28 (dk_at dksX3_laysMates_0 23 rfl rfl)
theorem dX3_laysMates_24 : decode cX3_laysMates 24 = .ok (.invokevirtual 139, 3) := dk_182 0 139 (dk_at dksX3_laysMates_1 0 rfl rfl)
theorem dX3_laysMates_27 : decode cX3_laysMates 27 = .ok (.if_icmp .ge 117, 3) := dk_162 0 117 (dk_at dksX3_laysMates_1 3 rfl rfl)
theorem dX3_laysMates_30 : decode cX3_laysMates 30 = .ok (.iload_n 2, 1) := dk_28 (dk_at dksX3_laysMates_1 6 rfl rfl)
theorem dX3_laysMates_31 : decode cX3_laysMates 31 = .ok (.iload_n 3, 1) := dk_29 (dk_at dksX3_laysMates_1 7 rfl rfl)
theorem dX3_laysMates_32 : decode cX3_laysMates 32 = .ok (.invokestatic 142, 3) := dk_184 0 142 (dk_at dksX3_laysMates_1 8 rfl rfl)
theorem dX3_laysMates_35 : decode cX3_laysMates 35 = .ok (.istore 4, 2) := dk_54 4 (dk_at dksX3_laysMates_1 11 rfl rfl)
theorem dX3_laysMates_37 : decode cX3_laysMates 37 = .ok (.aload_n 0, 1) := dk_42 (dk_at dksX3_laysMates_1 13 rfl rfl)
theorem dX3_laysMates_38 : decode cX3_laysMates 38 = .ok (.getfield 37, 3) := dk_180 0 37 (dk_at dksX3_laysMates_1 14 rfl rfl)
theorem dX3_laysMates_41 : decode cX3_laysMates 41 = .ok (.iload 4, 2) := dk_21 4 (dk_at dksX3_laysMates_1 17 rfl rfl)
theorem dX3_laysMates_43 : decode cX3_laysMates 43 = .ok (.iconst (-1), 1) := dk_2 (dk_at dksX3_laysMates_1 19 rfl rfl)
theorem dX3_laysMates_44 : decode cX3_laysMates 44 = .ok (.iastore, 1) := dk_79 (dk_at dksX3_laysMates_1 20 rfl rfl)
theorem dX3_laysMates_45 : decode cX3_laysMates 45 = .ok (.aload_n 0, 1) := dk_42 (dk_at dksX3_laysMates_1 21 rfl rfl)
theorem dX3_laysMates_46 : decode cX3_laysMates 46 = .ok (.iload_n 2, 1) := dk_28 (dk_at dksX3_laysMates_1 22 rfl rfl)
theorem dX3_laysMates_47 : decode cX3_laysMates 47 = .ok (.iload_n 3, 1) := dk_29 (dk_at dksX3_laysMates_1 23 rfl rfl)
theorem dX3_laysMates_48 : decode cX3_laysMates 48 = .ok (.invokevirtual 133, 3) := dk_182 0 133 (dk_at dksX3_laysMates_2 0 rfl rfl)
theorem dX3_laysMates_51 : decode cX3_laysMates 51 = .ok (.bipush 123, 2) := dk_16 123 (dk_at dksX3_laysMates_2 3 rfl rfl)
theorem dX3_laysMates_53 : decode cX3_laysMates 53 = .ok (.if_icmp .ne 17, 3) := dk_160 0 17 (dk_at dksX3_laysMates_2 5 rfl rfl)
theorem dX3_laysMates_56 : decode cX3_laysMates 56 = .ok (.aload_n 0, 1) := dk_42 (dk_at dksX3_laysMates_2 8 rfl rfl)
theorem dX3_laysMates_57 : decode cX3_laysMates 57 = .ok (.getfield 40, 3) := dk_180 0 40 (dk_at dksX3_laysMates_2 9 rfl rfl)
theorem dX3_laysMates_60 : decode cX3_laysMates 60 = .ok (.iload_n 1, 1) := dk_27 (dk_at dksX3_laysMates_2 12 rfl rfl)
theorem dX3_laysMates_61 : decode cX3_laysMates 61 = .ok (.iload 4, 2) := dk_21 4 (dk_at dksX3_laysMates_2 13 rfl rfl)
theorem dX3_laysMates_63 : decode cX3_laysMates 63 = .ok (.iastore, 1) := dk_79 (dk_at dksX3_laysMates_2 15 rfl rfl)
theorem dX3_laysMates_64 : decode cX3_laysMates 64 = .ok (.iinc 1 1, 3) := dk_132 1 1 (dk_at dksX3_laysMates_2 16 rfl rfl)
theorem dX3_laysMates_67 : decode cX3_laysMates 67 = .ok (.goto 71, 3) := dk_167 0 71 (dk_at dksX3_laysMates_2 19 rfl rfl)
theorem dX3_laysMates_70 : decode cX3_laysMates 70 = .ok (.aload_n 0, 1) := dk_42 (dk_at dksX3_laysMates_2 22 rfl rfl)
theorem dX3_laysMates_71 : decode cX3_laysMates 71 = .ok (.iload_n 2, 1) := dk_28 (dk_at dksX3_laysMates_2 23 rfl rfl)
theorem dX3_laysMates_72 : decode cX3_laysMates 72 = .ok (.iload_n 3, 1) := dk_29 (dk_at dksX3_laysMates_3 0 rfl rfl)
theorem dX3_laysMates_73 : decode cX3_laysMates 73 = .ok (.invokevirtual 133, 3) := dk_182 0 133 (dk_at dksX3_laysMates_3 1 rfl rfl)
theorem dX3_laysMates_76 : decode cX3_laysMates 76 = .ok (.bipush 125, 2) := dk_16 125 (dk_at dksX3_laysMates_3 4 rfl rfl)
theorem dX3_laysMates_78 : decode cX3_laysMates 78 = .ok (.if_icmp .ne 39, 3) := dk_160 0 39 (dk_at dksX3_laysMates_3 6 rfl rfl)
theorem dX3_laysMates_81 : decode cX3_laysMates 81 = .ok (.iload_n 1, 1) := dk_27 (dk_at dksX3_laysMates_3 9 rfl rfl)
theorem dX3_laysMates_82 : decode cX3_laysMates 82 = .ok (.ifCond .le 35, 3) := dk_158 0 35 (dk_at dksX3_laysMates_3 10 rfl rfl)
theorem dX3_laysMates_85 : decode cX3_laysMates 85 = .ok (.iinc 1 (-1), 3) := dk_132 1 255 (dk_at dksX3_laysMates_3 13 rfl rfl)
theorem dX3_laysMates_88 : decode cX3_laysMates 88 = .ok (.aload_n 0, 1) := dk_42 (dk_at dksX3_laysMates_3 16 rfl rfl)
theorem dX3_laysMates_89 : decode cX3_laysMates 89 = .ok (.getfield 37, 3) := dk_180 0 37 (dk_at dksX3_laysMates_3 17 rfl rfl)
theorem dX3_laysMates_92 : decode cX3_laysMates 92 = .ok (.iload 4, 2) := dk_21 4 (dk_at dksX3_laysMates_3 20 rfl rfl)
theorem dX3_laysMates_94 : decode cX3_laysMates 94 = .ok (.aload_n 0, 1) := dk_42 (dk_at dksX3_laysMates_3 22 rfl rfl)
theorem dX3_laysMates_95 : decode cX3_laysMates 95 = .ok (.getfield 40, 3) := dk_180 0 40 (dk_at dksX3_laysMates_4 0 rfl rfl)
theorem dX3_laysMates_98 : decode cX3_laysMates 98 = .ok (.iload_n 1, 1) := dk_27 (dk_at dksX3_laysMates_4 3 rfl rfl)
theorem dX3_laysMates_99 : decode cX3_laysMates 99 = .ok (.iaload, 1) := dk_46 (dk_at dksX3_laysMates_4 4 rfl rfl)
theorem dX3_laysMates_100 : decode cX3_laysMates 100 = .ok (.iastore, 1) := dk_79 (dk_at dksX3_laysMates_4 5 rfl rfl)
theorem dX3_laysMates_101 : decode cX3_laysMates 101 = .ok (.aload_n 0, 1) := dk_42 (dk_at dksX3_laysMates_4 6 rfl rfl)
theorem dX3_laysMates_102 : decode cX3_laysMates 102 = .ok (.getfield 37, 3) := dk_180 0 37 (dk_at dksX3_laysMates_4 7 rfl rfl)
theorem dX3_laysMates_105 : decode cX3_laysMates 105 = .ok (.aload_n 0, 1) := dk_42 (dk_at dksX3_laysMates_4 10 rfl rfl)
theorem dX3_laysMates_106 : decode cX3_laysMates 106 = .ok (.getfield 40, 3) := dk_180 0 40 (dk_at dksX3_laysMates_4 11 rfl rfl)
theorem dX3_laysMates_109 : decode cX3_laysMates 109 = .ok (.iload_n 1, 1) := dk_27 (dk_at dksX3_laysMates_4 14 rfl rfl)
theorem dX3_laysMates_110 : decode cX3_laysMates 110 = .ok (.iaload, 1) := dk_46 (dk_at dksX3_laysMates_4 15 rfl rfl)
theorem dX3_laysMates_111 : decode cX3_laysMates 111 = .ok (.iload 4, 2) := dk_21 4 (dk_at dksX3_laysMates_4 16 rfl rfl)
theorem dX3_laysMates_113 : decode cX3_laysMates 113 = .ok (.iastore, 1) := dk_79 (dk_at dksX3_laysMates_4 18 rfl rfl)
theorem dX3_laysMates_114 : decode cX3_laysMates 114 = .ok (.goto 24, 3) := dk_167 0 24 (dk_at dksX3_laysMates_4 19 rfl rfl)
theorem dX3_laysMates_117 : decode cX3_laysMates 117 = .ok (.aload_n 0, 1) := dk_42 (dk_at dksX3_laysMates_4 22 rfl rfl)
theorem dX3_laysMates_118 : decode cX3_laysMates 118 = .ok (.iload_n 2, 1) := dk_28 (dk_at dksX3_laysMates_4 23 rfl rfl)
theorem dX3_laysMates_119 : decode cX3_laysMates 119 = .ok (.iload_n 3, 1) := dk_29 (dk_at dksX3_laysMates_5 0 rfl rfl)
theorem dX3_laysMates_120 : decode cX3_laysMates 120 = .ok (.invokevirtual 133, 3) := dk_182 0 133 (dk_at dksX3_laysMates_5 1 rfl rfl)
theorem dX3_laysMates_123 : decode cX3_laysMates 123 = .ok (.bipush 125, 2) := dk_16 125 (dk_at dksX3_laysMates_5 4 rfl rfl)
theorem dX3_laysMates_125 : decode cX3_laysMates 125 = .ok (.if_icmp .ne 13, 3) := dk_160 0 13 (dk_at dksX3_laysMates_5 6 rfl rfl)
theorem dX3_laysMates_128 : decode cX3_laysMates 128 = .ok (.aload_n 0, 1) := dk_42 (dk_at dksX3_laysMates_5 9 rfl rfl)
theorem dX3_laysMates_129 : decode cX3_laysMates 129 = .ok (.dup, 1) := dk_89 (dk_at dksX3_laysMates_5 10 rfl rfl)
theorem dX3_laysMates_130 : decode cX3_laysMates 130 = .ok (.getfield 136, 3) := dk_180 0 136 (dk_at dksX3_laysMates_5 11 rfl rfl)
theorem dX3_laysMates_133 : decode cX3_laysMates 133 = .ok (.iconst 1, 1) := dk_4 (dk_at dksX3_laysMates_5 14 rfl rfl)
theorem dX3_laysMates_134 : decode cX3_laysMates 134 = .ok (.iadd, 1) := dk_96 (dk_at dksX3_laysMates_5 15 rfl rfl)
theorem dX3_laysMates_135 : decode cX3_laysMates 135 = .ok (.putfield 136, 3) := dk_181 0 136 (dk_at dksX3_laysMates_5 16 rfl rfl)
theorem dX3_laysMates_138 : decode cX3_laysMates 138 = .ok (.iinc 3 1, 3) := dk_132 3 1 (dk_at dksX3_laysMates_5 19 rfl rfl)
theorem dX3_laysMates_141 : decode cX3_laysMates 141 = .ok (.goto (-120), 3) := dk_167 255 136 (dk_at dksX3_laysMates_6 0 rfl rfl)
theorem dX3_laysMates_144 : decode cX3_laysMates 144 = .ok (.iinc 2 1, 3) := dk_132 2 1 (dk_at dksX3_laysMates_6 3 rfl rfl)
theorem dX3_laysMates_147 : decode cX3_laysMates 147 = .ok (.goto (-138), 3) := dk_167 255 118 (dk_at dksX3_laysMates_6 6 rfl rfl)
theorem dX3_laysMates_150 : decode cX3_laysMates 150 = .ok (.aload_n 0, 1) := dk_42 (dk_at dksX3_laysMates_6 9 rfl rfl)
theorem dX3_laysMates_151 : decode cX3_laysMates 151 = .ok (.dup, 1) := dk_89 (dk_at dksX3_laysMates_6 10 rfl rfl)
theorem dX3_laysMates_152 : decode cX3_laysMates 152 = .ok (.getfield 136, 3) := dk_180 0 136 (dk_at dksX3_laysMates_6 11 rfl rfl)
theorem dX3_laysMates_155 : decode cX3_laysMates 155 = .ok (.iload_n 1, 1) := dk_27 (dk_at dksX3_laysMates_6 14 rfl rfl)
theorem dX3_laysMates_156 : decode cX3_laysMates 156 = .ok (.iadd, 1) := dk_96 (dk_at dksX3_laysMates_6 15 rfl rfl)
theorem dX3_laysMates_157 : decode cX3_laysMates 157 = .ok (.putfield 136, 3) := dk_181 0 136 (dk_at dksX3_laysMates_6 16 rfl rfl)
theorem dX3_laysMates_160 : decode cX3_laysMates 160 = .ok (.return_, 1) := dk_177 (dk_at dksX3_laysMates_6 19 rfl rfl)
abbrev cX3_length : ByteArray := prog_21_method_21_code
def yX3_length : MethodName := ⟨RX3, "length", "(I)I"⟩
def dkwX3_length_0 : List UInt8 := [42, 27, 5, 182, 0, 129, 172]
abbrev dktX3_length_0 : List UInt8 := dkwX3_length_0 ++ []
theorem dksX3_length_0 : cX3_length.data.toList.drop 0 = dktX3_length_0 := by decide +kernel
theorem dX3_length_0 : decode cX3_length 0 = .ok (.aload_n 0, 1) := dk_42 (dk_at dksX3_length_0 0 rfl rfl)
theorem dX3_length_1 : decode cX3_length 1 = .ok (.iload_n 1, 1) := dk_27 (dk_at dksX3_length_0 1 rfl rfl)
theorem dX3_length_2 : decode cX3_length 2 = .ok (.iconst 2, 1) := dk_5 (dk_at dksX3_length_0 2 rfl rfl)
theorem dX3_length_3 : decode cX3_length 3 = .ok (.invokevirtual 129, 3) := dk_182 0 129 (dk_at dksX3_length_0 3 rfl rfl)
theorem dX3_length_6 : decode cX3_length 6 = .ok (.ireturn, 1) := dk_172 (dk_at dksX3_length_0 6 rfl rfl)
abbrev cX3_of : ByteArray := prog_21_method_20_code
def yX3_of : MethodName := ⟨RX3, "of", "(II)I"⟩
def dkwX3_of_0 : List UInt8 := [42, 180, 0, 13, 27, 184, 0, 125, 28, 96, 46, 172]
abbrev dktX3_of_0 : List UInt8 := dkwX3_of_0 ++ []
theorem dksX3_of_0 : cX3_of.data.toList.drop 0 = dktX3_of_0 := by decide +kernel
theorem dX3_of_0 : decode cX3_of 0 = .ok (.aload_n 0, 1) := dk_42 (dk_at dksX3_of_0 0 rfl rfl)
theorem dX3_of_1 : decode cX3_of 1 = .ok (.getfield 13, 3) := dk_180 0 13 (dk_at dksX3_of_0 1 rfl rfl)
theorem dX3_of_4 : decode cX3_of 4 = .ok (.iload_n 1, 1) := dk_27 (dk_at dksX3_of_0 4 rfl rfl)
theorem dX3_of_5 : decode cX3_of 5 = .ok (.invokestatic 125, 3) := dk_184 0 125 (dk_at dksX3_of_0 5 rfl rfl)
theorem dX3_of_8 : decode cX3_of 8 = .ok (.iload_n 2, 1) := dk_28 (dk_at dksX3_of_0 8 rfl rfl)
theorem dX3_of_9 : decode cX3_of 9 = .ok (.iadd, 1) := dk_96 (dk_at dksX3_of_0 9 rfl rfl)
theorem dX3_of_10 : decode cX3_of 10 = .ok (.iaload, 1) := dk_46 (dk_at dksX3_of_0 10 rfl rfl)
theorem dX3_of_11 : decode cX3_of 11 = .ok (.ireturn, 1) := dk_172 (dk_at dksX3_of_0 11 rfl rfl)
abbrev cX3_lineAt : ByteArray := prog_21_method_19_code
def yX3_lineAt : MethodName := ⟨RX3, "lineAt", "(I)I"⟩
def dkwX3_lineAt_0 : List UInt8 := [16, 35, 16, 27, 26, 4, 100, 104, 96, 172]
abbrev dktX3_lineAt_0 : List UInt8 := dkwX3_lineAt_0 ++ []
theorem dksX3_lineAt_0 : cX3_lineAt.data.toList.drop 0 = dktX3_lineAt_0 := by decide +kernel
theorem dX3_lineAt_0 : decode cX3_lineAt 0 = .ok (.bipush 35, 2) := dk_16 35 (dk_at dksX3_lineAt_0 0 rfl rfl)
theorem dX3_lineAt_2 : decode cX3_lineAt 2 = .ok (.bipush 27, 2) := dk_16 27 (dk_at dksX3_lineAt_0 2 rfl rfl)
theorem dX3_lineAt_4 : decode cX3_lineAt 4 = .ok (.iload_n 0, 1) := dk_26 (dk_at dksX3_lineAt_0 4 rfl rfl)
theorem dX3_lineAt_5 : decode cX3_lineAt 5 = .ok (.iconst 1, 1) := dk_4 (dk_at dksX3_lineAt_0 5 rfl rfl)
theorem dX3_lineAt_6 : decode cX3_lineAt 6 = .ok (.isub, 1) := dk_100 (dk_at dksX3_lineAt_0 6 rfl rfl)
theorem dX3_lineAt_7 : decode cX3_lineAt 7 = .ok (.imul, 1) := dk_104 (dk_at dksX3_lineAt_0 7 rfl rfl)
theorem dX3_lineAt_8 : decode cX3_lineAt 8 = .ok (.iadd, 1) := dk_96 (dk_at dksX3_lineAt_0 8 rfl rfl)
theorem dX3_lineAt_9 : decode cX3_lineAt 9 = .ok (.ireturn, 1) := dk_172 (dk_at dksX3_lineAt_0 9 rfl rfl)
abbrev cX3_place : ByteArray := prog_21_method_24_code
def yX3_place : MethodName := ⟨RX3, "place", "(II)I"⟩
def dkwX3_place_0 : List UInt8 := [16, 24, 26, 4, 100, 104, 27, 96, 172]
abbrev dktX3_place_0 : List UInt8 := dkwX3_place_0 ++ []
theorem dksX3_place_0 : cX3_place.data.toList.drop 0 = dktX3_place_0 := by decide +kernel
theorem dX3_place_0 : decode cX3_place 0 = .ok (.bipush 24, 2) := dk_16 24 (dk_at dksX3_place_0 0 rfl rfl)
theorem dX3_place_2 : decode cX3_place 2 = .ok (.iload_n 0, 1) := dk_26 (dk_at dksX3_place_0 2 rfl rfl)
theorem dX3_place_3 : decode cX3_place 3 = .ok (.iconst 1, 1) := dk_4 (dk_at dksX3_place_0 3 rfl rfl)
theorem dX3_place_4 : decode cX3_place 4 = .ok (.isub, 1) := dk_100 (dk_at dksX3_place_0 4 rfl rfl)
theorem dX3_place_5 : decode cX3_place 5 = .ok (.imul, 1) := dk_104 (dk_at dksX3_place_0 5 rfl rfl)
theorem dX3_place_6 : decode cX3_place 6 = .ok (.iload_n 1, 1) := dk_27 (dk_at dksX3_place_0 6 rfl rfl)
theorem dX3_place_7 : decode cX3_place 7 = .ok (.iadd, 1) := dk_96 (dk_at dksX3_place_0 7 rfl rfl)
theorem dX3_place_8 : decode cX3_place 8 = .ok (.ireturn, 1) := dk_172 (dk_at dksX3_place_0 8 rfl rfl)
abbrev cX3_byteAt : ByteArray := prog_21_method_22_code
def yX3_byteAt : MethodName := ⟨RX3, "byteAt", "(II)I"⟩
def dkwX3_byteAt_0 : List UInt8 := [42, 27, 6, 28, 96, 182, 0, 129, 172]
abbrev dktX3_byteAt_0 : List UInt8 := dkwX3_byteAt_0 ++ []
theorem dksX3_byteAt_0 : cX3_byteAt.data.toList.drop 0 = dktX3_byteAt_0 := by decide +kernel
theorem dX3_byteAt_0 : decode cX3_byteAt 0 = .ok (.aload_n 0, 1) := dk_42 (dk_at dksX3_byteAt_0 0 rfl rfl)
theorem dX3_byteAt_1 : decode cX3_byteAt 1 = .ok (.iload_n 1, 1) := dk_27 (dk_at dksX3_byteAt_0 1 rfl rfl)
theorem dX3_byteAt_2 : decode cX3_byteAt 2 = .ok (.iconst 3, 1) := dk_6 (dk_at dksX3_byteAt_0 2 rfl rfl)
theorem dX3_byteAt_3 : decode cX3_byteAt 3 = .ok (.iload_n 2, 1) := dk_28 (dk_at dksX3_byteAt_0 3 rfl rfl)
theorem dX3_byteAt_4 : decode cX3_byteAt 4 = .ok (.iadd, 1) := dk_96 (dk_at dksX3_byteAt_0 4 rfl rfl)
theorem dX3_byteAt_5 : decode cX3_byteAt 5 = .ok (.invokevirtual 129, 3) := dk_182 0 129 (dk_at dksX3_byteAt_0 5 rfl rfl)
theorem dX3_byteAt_8 : decode cX3_byteAt 8 = .ok (.ireturn, 1) := dk_172 (dk_at dksX3_byteAt_0 8 rfl rfl)
abbrev cX3_isBracket : ByteArray := prog_21_method_26_code
def yX3_isBracket : MethodName := ⟨RX3, "isBracket", "(II)Z"⟩
def dkwX3_isBracket_1 : List UInt8 := [167, 0, 4, 3, 172]
abbrev dktX3_isBracket_1 : List UInt8 := dkwX3_isBracket_1 ++ []
def dkwX3_isBracket_0 : List UInt8 := [42, 27, 28, 182, 0, 133, 16, 123, 159, 0, 14, 42, 27, 28, 182, 0, 133, 16, 125, 160, 0, 7, 4]
abbrev dktX3_isBracket_0 : List UInt8 := dkwX3_isBracket_0 ++ dktX3_isBracket_1
theorem dksX3_isBracket_0 : cX3_isBracket.data.toList.drop 0 = dktX3_isBracket_0 := by decide +kernel
theorem dksX3_isBracket_1 : cX3_isBracket.data.toList.drop 23 = dktX3_isBracket_1 := dk_seg dksX3_isBracket_0 23 rfl rfl
theorem dX3_isBracket_0 : decode cX3_isBracket 0 = .ok (.aload_n 0, 1) := dk_42 (dk_at dksX3_isBracket_0 0 rfl rfl)
theorem dX3_isBracket_1 : decode cX3_isBracket 1 = .ok (.iload_n 1, 1) := dk_27 (dk_at dksX3_isBracket_0 1 rfl rfl)
theorem dX3_isBracket_2 : decode cX3_isBracket 2 = .ok (.iload_n 2, 1) := dk_28 (dk_at dksX3_isBracket_0 2 rfl rfl)
theorem dX3_isBracket_3 : decode cX3_isBracket 3 = .ok (.invokevirtual 133, 3) := dk_182 0 133 (dk_at dksX3_isBracket_0 3 rfl rfl)
theorem dX3_isBracket_6 : decode cX3_isBracket 6 = .ok (.bipush 123, 2) := dk_16 123 (dk_at dksX3_isBracket_0 6 rfl rfl)
theorem dX3_isBracket_8 : decode cX3_isBracket 8 = .ok (.if_icmp .eq 14, 3) := dk_159 0 14 (dk_at dksX3_isBracket_0 8 rfl rfl)
theorem dX3_isBracket_11 : decode cX3_isBracket 11 = .ok (.aload_n 0, 1) := dk_42 (dk_at dksX3_isBracket_0 11 rfl rfl)
theorem dX3_isBracket_12 : decode cX3_isBracket 12 = .ok (.iload_n 1, 1) := dk_27 (dk_at dksX3_isBracket_0 12 rfl rfl)
theorem dX3_isBracket_13 : decode cX3_isBracket 13 = .ok (.iload_n 2, 1) := dk_28 (dk_at dksX3_isBracket_0 13 rfl rfl)
theorem dX3_isBracket_14 : decode cX3_isBracket 14 = .ok (.invokevirtual 133, 3) := dk_182 0 133 (dk_at dksX3_isBracket_0 14 rfl rfl)
theorem dX3_isBracket_17 : decode cX3_isBracket 17 = .ok (.bipush 125, 2) := dk_16 125 (dk_at dksX3_isBracket_0 17 rfl rfl)
theorem dX3_isBracket_19 : decode cX3_isBracket 19 = .ok (.if_icmp .ne 7, 3) := dk_160 0 7 (dk_at dksX3_isBracket_0 19 rfl rfl)
theorem dX3_isBracket_22 : decode cX3_isBracket 22 = .ok (.iconst 1, 1) := dk_4 (dk_at dksX3_isBracket_0 22 rfl rfl)
theorem dX3_isBracket_23 : decode cX3_isBracket 23 = .ok (.goto 4, 3) := dk_167 0 4 (dk_at dksX3_isBracket_1 0 rfl rfl)
theorem dX3_isBracket_26 : decode cX3_isBracket 26 = .ok (.iconst 0, 1) := dk_3 (dk_at dksX3_isBracket_1 3 rfl rfl)
theorem dX3_isBracket_27 : decode cX3_isBracket 27 = .ok (.ireturn, 1) := dk_172 (dk_at dksX3_isBracket_1 4 rfl rfl)
abbrev cX3_lineOf : ByteArray := prog_21_method_25_code
def yX3_lineOf : MethodName := ⟨RX3, "lineOf", "(I)I"⟩
def dkwX3_lineOf_0 : List UInt8 := [26, 16, 24, 108, 4, 96, 172]
abbrev dktX3_lineOf_0 : List UInt8 := dkwX3_lineOf_0 ++ []
theorem dksX3_lineOf_0 : cX3_lineOf.data.toList.drop 0 = dktX3_lineOf_0 := by decide +kernel
theorem dX3_lineOf_0 : decode cX3_lineOf 0 = .ok (.iload_n 0, 1) := dk_26 (dk_at dksX3_lineOf_0 0 rfl rfl)
theorem dX3_lineOf_1 : decode cX3_lineOf 1 = .ok (.bipush 24, 2) := dk_16 24 (dk_at dksX3_lineOf_0 1 rfl rfl)
theorem dX3_lineOf_3 : decode cX3_lineOf 3 = .ok (.idiv, 1) := dk_108 (dk_at dksX3_lineOf_0 3 rfl rfl)
theorem dX3_lineOf_4 : decode cX3_lineOf 4 = .ok (.iconst 1, 1) := dk_4 (dk_at dksX3_lineOf_0 4 rfl rfl)
theorem dX3_lineOf_5 : decode cX3_lineOf 5 = .ok (.iadd, 1) := dk_96 (dk_at dksX3_lineOf_0 5 rfl rfl)
theorem dX3_lineOf_6 : decode cX3_lineOf 6 = .ok (.ireturn, 1) := dk_172 (dk_at dksX3_lineOf_0 6 rfl rfl)
abbrev cX3_opensRegion : ByteArray := prog_21_method_28_code
def yX3_opensRegion : MethodName := ⟨RX3, "opensRegion", "(II)V"⟩
def dkwX3_opensRegion_5 : List UInt8 := [96, 181, 0, 145, 177]
abbrev dktX3_opensRegion_5 : List UInt8 := dkwX3_opensRegion_5 ++ []
def dkwX3_opensRegion_4 : List UInt8 := [180, 0, 40, 28, 4, 100, 46, 79, 42, 180, 0, 40, 28, 42, 180, 0, 145, 79, 42, 89, 180, 0, 145, 4]
abbrev dktX3_opensRegion_4 : List UInt8 := dkwX3_opensRegion_4 ++ dktX3_opensRegion_5
def dkwX3_opensRegion_3 : List UInt8 := [180, 0, 145, 28, 79, 42, 180, 0, 61, 42, 180, 0, 145, 28, 154, 0, 7, 2, 167, 0, 11, 42]
abbrev dktX3_opensRegion_3 : List UInt8 := dkwX3_opensRegion_3 ++ dktX3_opensRegion_4
def dkwX3_opensRegion_2 : List UInt8 := [180, 0, 55, 42, 180, 0, 145, 42, 180, 0, 37, 27, 46, 16, 24, 112, 79, 42, 180, 0, 58, 42]
abbrev dktX3_opensRegion_2 : List UInt8 := dkwX3_opensRegion_2 ++ dktX3_opensRegion_3
def dkwX3_opensRegion_1 : List UInt8 := [180, 0, 37, 27, 46, 184, 0, 148, 79, 42, 180, 0, 52, 42, 180, 0, 145, 27, 16, 24, 112, 79, 42]
abbrev dktX3_opensRegion_1 : List UInt8 := dkwX3_opensRegion_1 ++ dktX3_opensRegion_2
def dkwX3_opensRegion_0 : List UInt8 := [42, 180, 0, 46, 42, 180, 0, 145, 27, 184, 0, 148, 79, 42, 180, 0, 49, 42, 180, 0, 145, 42]
abbrev dktX3_opensRegion_0 : List UInt8 := dkwX3_opensRegion_0 ++ dktX3_opensRegion_1
theorem dksX3_opensRegion_0 : cX3_opensRegion.data.toList.drop 0 = dktX3_opensRegion_0 := by decide +kernel
theorem dksX3_opensRegion_1 : cX3_opensRegion.data.toList.drop 22 = dktX3_opensRegion_1 := dk_seg dksX3_opensRegion_0 22 rfl rfl
theorem dksX3_opensRegion_2 : cX3_opensRegion.data.toList.drop 45 = dktX3_opensRegion_2 := dk_seg dksX3_opensRegion_1 23 rfl rfl
theorem dksX3_opensRegion_3 : cX3_opensRegion.data.toList.drop 67 = dktX3_opensRegion_3 := dk_seg dksX3_opensRegion_2 22 rfl rfl
theorem dksX3_opensRegion_4 : cX3_opensRegion.data.toList.drop 89 = dktX3_opensRegion_4 := dk_seg dksX3_opensRegion_3 22 rfl rfl
theorem dksX3_opensRegion_5 : cX3_opensRegion.data.toList.drop 113 = dktX3_opensRegion_5 := dk_seg dksX3_opensRegion_4 24 rfl rfl
theorem dX3_opensRegion_0 : decode cX3_opensRegion 0 = .ok (.aload_n 0, 1) := dk_42 (dk_at dksX3_opensRegion_0 0 rfl rfl)
theorem dX3_opensRegion_1 : decode cX3_opensRegion 1 = .ok (.getfield 46, 3) := dk_180 0 46 (dk_at dksX3_opensRegion_0 1 rfl rfl)
theorem dX3_opensRegion_4 : decode cX3_opensRegion 4 = .ok (.aload_n 0, 1) := dk_42 (dk_at dksX3_opensRegion_0 4 rfl rfl)
theorem dX3_opensRegion_5 : decode cX3_opensRegion 5 = .ok (.getfield 145, 3) := dk_180 0 145 (dk_at dksX3_opensRegion_0 5 rfl rfl)
theorem dX3_opensRegion_8 : decode cX3_opensRegion 8 = .ok (.iload_n 1, 1) := dk_27 (dk_at dksX3_opensRegion_0 8 rfl rfl)
theorem dX3_opensRegion_9 : decode cX3_opensRegion 9 = .ok (.invokestatic 148, 3) := dk_184 0 148 (dk_at dksX3_opensRegion_0 9 rfl rfl)
theorem dX3_opensRegion_12 : decode cX3_opensRegion 12 = .ok (.iastore, 1) := dk_79 (dk_at dksX3_opensRegion_0 12 rfl rfl)
theorem dX3_opensRegion_13 : decode cX3_opensRegion 13 = .ok (.aload_n 0, 1) := dk_42 (dk_at dksX3_opensRegion_0 13 rfl rfl)
theorem dX3_opensRegion_14 : decode cX3_opensRegion 14 = .ok (.getfield 49, 3) := dk_180 0 49 (dk_at dksX3_opensRegion_0 14 rfl rfl)
theorem dX3_opensRegion_17 : decode cX3_opensRegion 17 = .ok (.aload_n 0, 1) := dk_42 (dk_at dksX3_opensRegion_0 17 rfl rfl)
theorem dX3_opensRegion_18 : decode cX3_opensRegion 18 = .ok (.getfield 145, 3) := dk_180 0 145 (dk_at dksX3_opensRegion_0 18 rfl rfl)
theorem dX3_opensRegion_21 : decode cX3_opensRegion 21 = .ok (.aload_n 0, 1) := dk_42 (dk_at dksX3_opensRegion_0 21 rfl rfl)
theorem dX3_opensRegion_22 : decode cX3_opensRegion 22 = .ok (.getfield 37, 3) := dk_180 0 37 (dk_at dksX3_opensRegion_1 0 rfl rfl)
theorem dX3_opensRegion_25 : decode cX3_opensRegion 25 = .ok (.iload_n 1, 1) := dk_27 (dk_at dksX3_opensRegion_1 3 rfl rfl)
theorem dX3_opensRegion_26 : decode cX3_opensRegion 26 = .ok (.iaload, 1) := dk_46 (dk_at dksX3_opensRegion_1 4 rfl rfl)
theorem dX3_opensRegion_27 : decode cX3_opensRegion 27 = .ok (.invokestatic 148, 3) := dk_184 0 148 (dk_at dksX3_opensRegion_1 5 rfl rfl)
theorem dX3_opensRegion_30 : decode cX3_opensRegion 30 = .ok (.iastore, 1) := dk_79 (dk_at dksX3_opensRegion_1 8 rfl rfl)
theorem dX3_opensRegion_31 : decode cX3_opensRegion 31 = .ok (.aload_n 0, 1) := dk_42 (dk_at dksX3_opensRegion_1 9 rfl rfl)
theorem dX3_opensRegion_32 : decode cX3_opensRegion 32 = .ok (.getfield 52, 3) := dk_180 0 52 (dk_at dksX3_opensRegion_1 10 rfl rfl)
theorem dX3_opensRegion_35 : decode cX3_opensRegion 35 = .ok (.aload_n 0, 1) := dk_42 (dk_at dksX3_opensRegion_1 13 rfl rfl)
theorem dX3_opensRegion_36 : decode cX3_opensRegion 36 = .ok (.getfield 145, 3) := dk_180 0 145 (dk_at dksX3_opensRegion_1 14 rfl rfl)
theorem dX3_opensRegion_39 : decode cX3_opensRegion 39 = .ok (.iload_n 1, 1) := dk_27 (dk_at dksX3_opensRegion_1 17 rfl rfl)
theorem dX3_opensRegion_40 : decode cX3_opensRegion 40 = .ok (.bipush 24, 2) := dk_16 24 (dk_at dksX3_opensRegion_1 18 rfl rfl)
theorem dX3_opensRegion_42 : decode cX3_opensRegion 42 = .ok (.irem, 1) := dk_112 (dk_at dksX3_opensRegion_1 20 rfl rfl)
theorem dX3_opensRegion_43 : decode cX3_opensRegion 43 = .ok (.iastore, 1) := dk_79 (dk_at dksX3_opensRegion_1 21 rfl rfl)
theorem dX3_opensRegion_44 : decode cX3_opensRegion 44 = .ok (.aload_n 0, 1) := dk_42 (dk_at dksX3_opensRegion_1 22 rfl rfl)
theorem dX3_opensRegion_45 : decode cX3_opensRegion 45 = .ok (.getfield 55, 3) := dk_180 0 55 (dk_at dksX3_opensRegion_2 0 rfl rfl)
theorem dX3_opensRegion_48 : decode cX3_opensRegion 48 = .ok (.aload_n 0, 1) := dk_42 (dk_at dksX3_opensRegion_2 3 rfl rfl)
theorem dX3_opensRegion_49 : decode cX3_opensRegion 49 = .ok (.getfield 145, 3) := dk_180 0 145 (dk_at dksX3_opensRegion_2 4 rfl rfl)
theorem dX3_opensRegion_52 : decode cX3_opensRegion 52 = .ok (.aload_n 0, 1) := dk_42 (dk_at dksX3_opensRegion_2 7 rfl rfl)
theorem dX3_opensRegion_53 : decode cX3_opensRegion 53 = .ok (.getfield 37, 3) := dk_180 0 37 (dk_at dksX3_opensRegion_2 8 rfl rfl)
theorem dX3_opensRegion_56 : decode cX3_opensRegion 56 = .ok (.iload_n 1, 1) := dk_27 (dk_at dksX3_opensRegion_2 11 rfl rfl)
theorem dX3_opensRegion_57 : decode cX3_opensRegion 57 = .ok (.iaload, 1) := dk_46 (dk_at dksX3_opensRegion_2 12 rfl rfl)
theorem dX3_opensRegion_58 : decode cX3_opensRegion 58 = .ok (.bipush 24, 2) := dk_16 24 (dk_at dksX3_opensRegion_2 13 rfl rfl)
theorem dX3_opensRegion_60 : decode cX3_opensRegion 60 = .ok (.irem, 1) := dk_112 (dk_at dksX3_opensRegion_2 15 rfl rfl)
theorem dX3_opensRegion_61 : decode cX3_opensRegion 61 = .ok (.iastore, 1) := dk_79 (dk_at dksX3_opensRegion_2 16 rfl rfl)
theorem dX3_opensRegion_62 : decode cX3_opensRegion 62 = .ok (.aload_n 0, 1) := dk_42 (dk_at dksX3_opensRegion_2 17 rfl rfl)
theorem dX3_opensRegion_63 : decode cX3_opensRegion 63 = .ok (.getfield 58, 3) := dk_180 0 58 (dk_at dksX3_opensRegion_2 18 rfl rfl)
theorem dX3_opensRegion_66 : decode cX3_opensRegion 66 = .ok (.aload_n 0, 1) := dk_42 (dk_at dksX3_opensRegion_2 21 rfl rfl)
theorem dX3_opensRegion_67 : decode cX3_opensRegion 67 = .ok (.getfield 145, 3) := dk_180 0 145 (dk_at dksX3_opensRegion_3 0 rfl rfl)
theorem dX3_opensRegion_70 : decode cX3_opensRegion 70 = .ok (.iload_n 2, 1) := dk_28 (dk_at dksX3_opensRegion_3 3 rfl rfl)
theorem dX3_opensRegion_71 : decode cX3_opensRegion 71 = .ok (.iastore, 1) := dk_79 (dk_at dksX3_opensRegion_3 4 rfl rfl)
theorem dX3_opensRegion_72 : decode cX3_opensRegion 72 = .ok (.aload_n 0, 1) := dk_42 (dk_at dksX3_opensRegion_3 5 rfl rfl)
theorem dX3_opensRegion_73 : decode cX3_opensRegion 73 = .ok (.getfield 61, 3) := dk_180 0 61 (dk_at dksX3_opensRegion_3 6 rfl rfl)
theorem dX3_opensRegion_76 : decode cX3_opensRegion 76 = .ok (.aload_n 0, 1) := dk_42 (dk_at dksX3_opensRegion_3 9 rfl rfl)
theorem dX3_opensRegion_77 : decode cX3_opensRegion 77 = .ok (.getfield 145, 3) := dk_180 0 145 (dk_at dksX3_opensRegion_3 10 rfl rfl)
theorem dX3_opensRegion_80 : decode cX3_opensRegion 80 = .ok (.iload_n 2, 1) := dk_28 (dk_at dksX3_opensRegion_3 13 rfl rfl)
theorem dX3_opensRegion_81 : decode cX3_opensRegion 81 = .ok (.ifCond .ne 7, 3) := dk_154 0 7 (dk_at dksX3_opensRegion_3 14 rfl rfl)
theorem dX3_opensRegion_84 : decode cX3_opensRegion 84 = .ok (.iconst (-1), 1) := dk_2 (dk_at dksX3_opensRegion_3 17 rfl rfl)
theorem dX3_opensRegion_85 : decode cX3_opensRegion 85 = .ok (.goto 11, 3) := dk_167 0 11 (dk_at dksX3_opensRegion_3 18 rfl rfl)
theorem dX3_opensRegion_88 : decode cX3_opensRegion 88 = .ok (.aload_n 0, 1) := dk_42 (dk_at dksX3_opensRegion_3 21 rfl rfl)
theorem dX3_opensRegion_89 : decode cX3_opensRegion 89 = .ok (.getfield 40, 3) := dk_180 0 40 (dk_at dksX3_opensRegion_4 0 rfl rfl)
theorem dX3_opensRegion_92 : decode cX3_opensRegion 92 = .ok (.iload_n 2, 1) := dk_28 (dk_at dksX3_opensRegion_4 3 rfl rfl)
theorem dX3_opensRegion_93 : decode cX3_opensRegion 93 = .ok (.iconst 1, 1) := dk_4 (dk_at dksX3_opensRegion_4 4 rfl rfl)
theorem dX3_opensRegion_94 : decode cX3_opensRegion 94 = .ok (.isub, 1) := dk_100 (dk_at dksX3_opensRegion_4 5 rfl rfl)
theorem dX3_opensRegion_95 : decode cX3_opensRegion 95 = .ok (.iaload, 1) := dk_46 (dk_at dksX3_opensRegion_4 6 rfl rfl)
theorem dX3_opensRegion_96 : decode cX3_opensRegion 96 = .ok (.iastore, 1) := dk_79 (dk_at dksX3_opensRegion_4 7 rfl rfl)
theorem dX3_opensRegion_97 : decode cX3_opensRegion 97 = .ok (.aload_n 0, 1) := dk_42 (dk_at dksX3_opensRegion_4 8 rfl rfl)
theorem dX3_opensRegion_98 : decode cX3_opensRegion 98 = .ok (.getfield 40, 3) := dk_180 0 40 (dk_at dksX3_opensRegion_4 9 rfl rfl)
theorem dX3_opensRegion_101 : decode cX3_opensRegion 101 = .ok (.iload_n 2, 1) := dk_28 (dk_at dksX3_opensRegion_4 12 rfl rfl)
theorem dX3_opensRegion_102 : decode cX3_opensRegion 102 = .ok (.aload_n 0, 1) := dk_42 (dk_at dksX3_opensRegion_4 13 rfl rfl)
theorem dX3_opensRegion_103 : decode cX3_opensRegion 103 = .ok (.getfield 145, 3) := dk_180 0 145 (dk_at dksX3_opensRegion_4 14 rfl rfl)
theorem dX3_opensRegion_106 : decode cX3_opensRegion 106 = .ok (.iastore, 1) := dk_79 (dk_at dksX3_opensRegion_4 17 rfl rfl)
theorem dX3_opensRegion_107 : decode cX3_opensRegion 107 = .ok (.aload_n 0, 1) := dk_42 (dk_at dksX3_opensRegion_4 18 rfl rfl)
theorem dX3_opensRegion_108 : decode cX3_opensRegion 108 = .ok (.dup, 1) := dk_89 (dk_at dksX3_opensRegion_4 19 rfl rfl)
theorem dX3_opensRegion_109 : decode cX3_opensRegion 109 = .ok (.getfield 145, 3) := dk_180 0 145 (dk_at dksX3_opensRegion_4 20 rfl rfl)
theorem dX3_opensRegion_112 : decode cX3_opensRegion 112 = .ok (.iconst 1, 1) := dk_4 (dk_at dksX3_opensRegion_4 23 rfl rfl)
theorem dX3_opensRegion_113 : decode cX3_opensRegion 113 = .ok (.iadd, 1) := dk_96 (dk_at dksX3_opensRegion_5 0 rfl rfl)
theorem dX3_opensRegion_114 : decode cX3_opensRegion 114 = .ok (.putfield 145, 3) := dk_181 0 145 (dk_at dksX3_opensRegion_5 1 rfl rfl)
theorem dX3_opensRegion_117 : decode cX3_opensRegion 117 = .ok (.return_, 1) := dk_177 (dk_at dksX3_opensRegion_5 4 rfl rfl)
abbrev cX3_rowOf : ByteArray := prog_21_method_35_code
def yX3_rowOf : MethodName := ⟨RX3, "rowOf", "(I)I"⟩
def dkwX3_rowOf_1 : List UInt8 := [96, 61, 132, 3, 1, 167, 255, 231, 28, 172]
abbrev dktX3_rowOf_1 : List UInt8 := dkwX3_rowOf_1 ++ []
def dkwX3_rowOf_0 : List UInt8 := [3, 61, 4, 62, 29, 27, 163, 0, 26, 28, 42, 180, 0, 67, 29, 51, 153, 0, 7, 3, 167, 0, 4, 4]
abbrev dktX3_rowOf_0 : List UInt8 := dkwX3_rowOf_0 ++ dktX3_rowOf_1
theorem dksX3_rowOf_0 : cX3_rowOf.data.toList.drop 0 = dktX3_rowOf_0 := by decide +kernel
theorem dksX3_rowOf_1 : cX3_rowOf.data.toList.drop 24 = dktX3_rowOf_1 := dk_seg dksX3_rowOf_0 24 rfl rfl
theorem dX3_rowOf_0 : decode cX3_rowOf 0 = .ok (.iconst 0, 1) := dk_3 (dk_at dksX3_rowOf_0 0 rfl rfl)
theorem dX3_rowOf_1 : decode cX3_rowOf 1 = .ok (.istore_n 2, 1) := dk_61 (dk_at dksX3_rowOf_0 1 rfl rfl)
theorem dX3_rowOf_2 : decode cX3_rowOf 2 = .ok (.iconst 1, 1) := dk_4 (dk_at dksX3_rowOf_0 2 rfl rfl)
theorem dX3_rowOf_3 : decode cX3_rowOf 3 = .ok (.istore_n 3, 1) := dk_62 (dk_at dksX3_rowOf_0 3 rfl rfl)
theorem dX3_rowOf_4 : decode cX3_rowOf 4 = .ok (.iload_n 3, 1) := dk_29 (dk_at dksX3_rowOf_0 4 rfl rfl)
theorem dX3_rowOf_5 : decode cX3_rowOf 5 = .ok (.iload_n 1, 1) := dk_27 (dk_at dksX3_rowOf_0 5 rfl rfl)
theorem dX3_rowOf_6 : decode cX3_rowOf 6 = .ok (.if_icmp .gt 26, 3) := dk_163 0 26 (dk_at dksX3_rowOf_0 6 rfl rfl)
theorem dX3_rowOf_9 : decode cX3_rowOf 9 = .ok (.iload_n 2, 1) := dk_28 (dk_at dksX3_rowOf_0 9 rfl rfl)
theorem dX3_rowOf_10 : decode cX3_rowOf 10 = .ok (.aload_n 0, 1) := dk_42 (dk_at dksX3_rowOf_0 10 rfl rfl)
theorem dX3_rowOf_11 : decode cX3_rowOf 11 = .ok (.getfield 67, 3) := dk_180 0 67 (dk_at dksX3_rowOf_0 11 rfl rfl)
theorem dX3_rowOf_14 : decode cX3_rowOf 14 = .ok (.iload_n 3, 1) := dk_29 (dk_at dksX3_rowOf_0 14 rfl rfl)
theorem dX3_rowOf_15 : decode cX3_rowOf 15 = .ok (.baload, 1) := dk_51 (dk_at dksX3_rowOf_0 15 rfl rfl)
theorem dX3_rowOf_16 : decode cX3_rowOf 16 = .ok (.ifCond .eq 7, 3) := dk_153 0 7 (dk_at dksX3_rowOf_0 16 rfl rfl)
theorem dX3_rowOf_19 : decode cX3_rowOf 19 = .ok (.iconst 0, 1) := dk_3 (dk_at dksX3_rowOf_0 19 rfl rfl)
theorem dX3_rowOf_20 : decode cX3_rowOf 20 = .ok (.goto 4, 3) := dk_167 0 4 (dk_at dksX3_rowOf_0 20 rfl rfl)
theorem dX3_rowOf_23 : decode cX3_rowOf 23 = .ok (.iconst 1, 1) := dk_4 (dk_at dksX3_rowOf_0 23 rfl rfl)
theorem dX3_rowOf_24 : decode cX3_rowOf 24 = .ok (.iadd, 1) := dk_96 (dk_at dksX3_rowOf_1 0 rfl rfl)
theorem dX3_rowOf_25 : decode cX3_rowOf 25 = .ok (.istore_n 2, 1) := dk_61 (dk_at dksX3_rowOf_1 1 rfl rfl)
theorem dX3_rowOf_26 : decode cX3_rowOf 26 = .ok (.iinc 3 1, 3) := dk_132 3 1 (dk_at dksX3_rowOf_1 2 rfl rfl)
theorem dX3_rowOf_29 : decode cX3_rowOf 29 = .ok (.goto (-25), 3) := dk_167 255 231 (dk_at dksX3_rowOf_1 5 rfl rfl)
theorem dX3_rowOf_32 : decode cX3_rowOf 32 = .ok (.iload_n 2, 1) := dk_28 (dk_at dksX3_rowOf_1 8 rfl rfl)
theorem dX3_rowOf_33 : decode cX3_rowOf 33 = .ok (.ireturn, 1) := dk_172 (dk_at dksX3_rowOf_1 9 rfl rfl)
abbrev cX3_hiddenBehind : ByteArray := prog_21_method_36_code
def yX3_hiddenBehind : MethodName := ⟨RX3, "hiddenBehind", "(I)I"⟩
def dkwX3_hiddenBehind_1 : List UInt8 := [180, 0, 67, 28, 51, 153, 0, 9, 132, 2, 1, 167, 255, 225, 28, 27, 100, 4, 100, 172]
abbrev dktX3_hiddenBehind_1 : List UInt8 := dkwX3_hiddenBehind_1 ++ []
def dkwX3_hiddenBehind_0 : List UInt8 := [27, 4, 96, 61, 42, 180, 0, 67, 27, 51, 154, 0, 28, 28, 42, 180, 0, 13, 3, 46, 163, 0, 18, 42]
abbrev dktX3_hiddenBehind_0 : List UInt8 := dkwX3_hiddenBehind_0 ++ dktX3_hiddenBehind_1
theorem dksX3_hiddenBehind_0 : cX3_hiddenBehind.data.toList.drop 0 = dktX3_hiddenBehind_0 := by decide +kernel
theorem dksX3_hiddenBehind_1 : cX3_hiddenBehind.data.toList.drop 24 = dktX3_hiddenBehind_1 := dk_seg dksX3_hiddenBehind_0 24 rfl rfl
theorem dX3_hiddenBehind_0 : decode cX3_hiddenBehind 0 = .ok (.iload_n 1, 1) := dk_27 (dk_at dksX3_hiddenBehind_0 0 rfl rfl)
theorem dX3_hiddenBehind_1 : decode cX3_hiddenBehind 1 = .ok (.iconst 1, 1) := dk_4 (dk_at dksX3_hiddenBehind_0 1 rfl rfl)
theorem dX3_hiddenBehind_2 : decode cX3_hiddenBehind 2 = .ok (.iadd, 1) := dk_96 (dk_at dksX3_hiddenBehind_0 2 rfl rfl)
theorem dX3_hiddenBehind_3 : decode cX3_hiddenBehind 3 = .ok (.istore_n 2, 1) := dk_61 (dk_at dksX3_hiddenBehind_0 3 rfl rfl)
theorem dX3_hiddenBehind_4 : decode cX3_hiddenBehind 4 = .ok (.aload_n 0, 1) := dk_42 (dk_at dksX3_hiddenBehind_0 4 rfl rfl)
theorem dX3_hiddenBehind_5 : decode cX3_hiddenBehind 5 = .ok (.getfield 67, 3) := dk_180 0 67 (dk_at dksX3_hiddenBehind_0 5 rfl rfl)
theorem dX3_hiddenBehind_8 : decode cX3_hiddenBehind 8 = .ok (.iload_n 1, 1) := dk_27 (dk_at dksX3_hiddenBehind_0 8 rfl rfl)
theorem dX3_hiddenBehind_9 : decode cX3_hiddenBehind 9 = .ok (.baload, 1) := dk_51 (dk_at dksX3_hiddenBehind_0 9 rfl rfl)
theorem dX3_hiddenBehind_10 : decode cX3_hiddenBehind 10 = .ok (.ifCond .ne 28, 3) := dk_154 0 28 (dk_at dksX3_hiddenBehind_0 10 rfl rfl)
theorem dX3_hiddenBehind_13 : decode cX3_hiddenBehind 13 = .ok (.iload_n 2, 1) := dk_28 (dk_at dksX3_hiddenBehind_0 13 rfl rfl)
theorem dX3_hiddenBehind_14 : decode cX3_hiddenBehind 14 = .ok (.aload_n 0, 1) := dk_42 (dk_at dksX3_hiddenBehind_0 14 rfl rfl)
theorem dX3_hiddenBehind_15 : decode cX3_hiddenBehind 15 = .ok (.getfield 13, 3) := dk_180 0 13 (dk_at dksX3_hiddenBehind_0 15 rfl rfl)
theorem dX3_hiddenBehind_18 : decode cX3_hiddenBehind 18 = .ok (.iconst 0, 1) := dk_3 (dk_at dksX3_hiddenBehind_0 18 rfl rfl)
theorem dX3_hiddenBehind_19 : decode cX3_hiddenBehind 19 = .ok (.iaload, 1) := dk_46 (dk_at dksX3_hiddenBehind_0 19 rfl rfl)
theorem dX3_hiddenBehind_20 : decode cX3_hiddenBehind 20 = .ok (.if_icmp .gt 18, 3) := dk_163 0 18 (dk_at dksX3_hiddenBehind_0 20 rfl rfl)
theorem dX3_hiddenBehind_23 : decode cX3_hiddenBehind 23 = .ok (.aload_n 0, 1) := dk_42 (dk_at dksX3_hiddenBehind_0 23 rfl rfl)
theorem dX3_hiddenBehind_24 : decode cX3_hiddenBehind 24 = .ok (.getfield 67, 3) := dk_180 0 67 (dk_at dksX3_hiddenBehind_1 0 rfl rfl)
theorem dX3_hiddenBehind_27 : decode cX3_hiddenBehind 27 = .ok (.iload_n 2, 1) := dk_28 (dk_at dksX3_hiddenBehind_1 3 rfl rfl)
theorem dX3_hiddenBehind_28 : decode cX3_hiddenBehind 28 = .ok (.baload, 1) := dk_51 (dk_at dksX3_hiddenBehind_1 4 rfl rfl)
theorem dX3_hiddenBehind_29 : decode cX3_hiddenBehind 29 = .ok (.ifCond .eq 9, 3) := dk_153 0 9 (dk_at dksX3_hiddenBehind_1 5 rfl rfl)
theorem dX3_hiddenBehind_32 : decode cX3_hiddenBehind 32 = .ok (.iinc 2 1, 3) := dk_132 2 1 (dk_at dksX3_hiddenBehind_1 8 rfl rfl)
theorem dX3_hiddenBehind_35 : decode cX3_hiddenBehind 35 = .ok (.goto (-31), 3) := dk_167 255 225 (dk_at dksX3_hiddenBehind_1 11 rfl rfl)
theorem dX3_hiddenBehind_38 : decode cX3_hiddenBehind 38 = .ok (.iload_n 2, 1) := dk_28 (dk_at dksX3_hiddenBehind_1 14 rfl rfl)
theorem dX3_hiddenBehind_39 : decode cX3_hiddenBehind 39 = .ok (.iload_n 1, 1) := dk_27 (dk_at dksX3_hiddenBehind_1 15 rfl rfl)
theorem dX3_hiddenBehind_40 : decode cX3_hiddenBehind 40 = .ok (.isub, 1) := dk_100 (dk_at dksX3_hiddenBehind_1 16 rfl rfl)
theorem dX3_hiddenBehind_41 : decode cX3_hiddenBehind 41 = .ok (.iconst 1, 1) := dk_4 (dk_at dksX3_hiddenBehind_1 17 rfl rfl)
theorem dX3_hiddenBehind_42 : decode cX3_hiddenBehind 42 = .ok (.isub, 1) := dk_100 (dk_at dksX3_hiddenBehind_1 18 rfl rfl)
theorem dX3_hiddenBehind_43 : decode cX3_hiddenBehind 43 = .ok (.ireturn, 1) := dk_172 (dk_at dksX3_hiddenBehind_1 19 rfl rfl)
abbrev cX3_markersOn : ByteArray := prog_21_method_37_code
def yX3_markersOn : MethodName := ⟨RX3, "markersOn", "(I)I"⟩
def dkwX3_markersOn_1 : List UInt8 := [182, 0, 129, 160, 0, 9, 4, 29, 120, 167, 0, 4, 3, 128, 61, 132, 3, 1, 167, 255, 220, 28, 172]
abbrev dktX3_markersOn_1 : List UInt8 := dkwX3_markersOn_1 ++ []
def dkwX3_markersOn_0 : List UInt8 := [3, 61, 3, 62, 29, 16, 10, 162, 0, 36, 28, 42, 180, 0, 13, 8, 29, 96, 46, 42, 27, 3]
abbrev dktX3_markersOn_0 : List UInt8 := dkwX3_markersOn_0 ++ dktX3_markersOn_1
theorem dksX3_markersOn_0 : cX3_markersOn.data.toList.drop 0 = dktX3_markersOn_0 := by decide +kernel
theorem dksX3_markersOn_1 : cX3_markersOn.data.toList.drop 22 = dktX3_markersOn_1 := dk_seg dksX3_markersOn_0 22 rfl rfl
theorem dX3_markersOn_0 : decode cX3_markersOn 0 = .ok (.iconst 0, 1) := dk_3 (dk_at dksX3_markersOn_0 0 rfl rfl)
theorem dX3_markersOn_1 : decode cX3_markersOn 1 = .ok (.istore_n 2, 1) := dk_61 (dk_at dksX3_markersOn_0 1 rfl rfl)
theorem dX3_markersOn_2 : decode cX3_markersOn 2 = .ok (.iconst 0, 1) := dk_3 (dk_at dksX3_markersOn_0 2 rfl rfl)
theorem dX3_markersOn_3 : decode cX3_markersOn 3 = .ok (.istore_n 3, 1) := dk_62 (dk_at dksX3_markersOn_0 3 rfl rfl)
theorem dX3_markersOn_4 : decode cX3_markersOn 4 = .ok (.iload_n 3, 1) := dk_29 (dk_at dksX3_markersOn_0 4 rfl rfl)
theorem dX3_markersOn_5 : decode cX3_markersOn 5 = .ok (.bipush 10, 2) := dk_16 10 (dk_at dksX3_markersOn_0 5 rfl rfl)
theorem dX3_markersOn_7 : decode cX3_markersOn 7 = .ok (.if_icmp .ge 36, 3) := dk_162 0 36 (dk_at dksX3_markersOn_0 7 rfl rfl)
theorem dX3_markersOn_10 : decode cX3_markersOn 10 = .ok (.iload_n 2, 1) := dk_28 (dk_at dksX3_markersOn_0 10 rfl rfl)
theorem dX3_markersOn_11 : decode cX3_markersOn 11 = .ok (.aload_n 0, 1) := dk_42 (dk_at dksX3_markersOn_0 11 rfl rfl)
theorem dX3_markersOn_12 : decode cX3_markersOn 12 = .ok (.getfield 13, 3) := dk_180 0 13 (dk_at dksX3_markersOn_0 12 rfl rfl)
theorem dX3_markersOn_15 : decode cX3_markersOn 15 = .ok (.iconst 5, 1) := dk_8 (dk_at dksX3_markersOn_0 15 rfl rfl)
theorem dX3_markersOn_16 : decode cX3_markersOn 16 = .ok (.iload_n 3, 1) := dk_29 (dk_at dksX3_markersOn_0 16 rfl rfl)
theorem dX3_markersOn_17 : decode cX3_markersOn 17 = .ok (.iadd, 1) := dk_96 (dk_at dksX3_markersOn_0 17 rfl rfl)
theorem dX3_markersOn_18 : decode cX3_markersOn 18 = .ok (.iaload, 1) := dk_46 (dk_at dksX3_markersOn_0 18 rfl rfl)
theorem dX3_markersOn_19 : decode cX3_markersOn 19 = .ok (.aload_n 0, 1) := dk_42 (dk_at dksX3_markersOn_0 19 rfl rfl)
theorem dX3_markersOn_20 : decode cX3_markersOn 20 = .ok (.iload_n 1, 1) := dk_27 (dk_at dksX3_markersOn_0 20 rfl rfl)
theorem dX3_markersOn_21 : decode cX3_markersOn 21 = .ok (.iconst 0, 1) := dk_3 (dk_at dksX3_markersOn_0 21 rfl rfl)
theorem dX3_markersOn_22 : decode cX3_markersOn 22 = .ok (.invokevirtual 129, 3) := dk_182 0 129 (dk_at dksX3_markersOn_1 0 rfl rfl)
theorem dX3_markersOn_25 : decode cX3_markersOn 25 = .ok (.if_icmp .ne 9, 3) := dk_160 0 9 (dk_at dksX3_markersOn_1 3 rfl rfl)
theorem dX3_markersOn_28 : decode cX3_markersOn 28 = .ok (.iconst 1, 1) := dk_4 (dk_at dksX3_markersOn_1 6 rfl rfl)
theorem dX3_markersOn_29 : decode cX3_markersOn 29 = .ok (.iload_n 3, 1) := dk_29 (dk_at dksX3_markersOn_1 7 rfl rfl)
theorem dX3_markersOn_30 : decode cX3_markersOn 30 = .ok (.ishl, 1) := dk_120 (dk_at dksX3_markersOn_1 8 rfl rfl)
theorem dX3_markersOn_31 : decode cX3_markersOn 31 = .ok (.goto 4, 3) := dk_167 0 4 (dk_at dksX3_markersOn_1 9 rfl rfl)
theorem dX3_markersOn_34 : decode cX3_markersOn 34 = .ok (.iconst 0, 1) := dk_3 (dk_at dksX3_markersOn_1 12 rfl rfl)
theorem dX3_markersOn_35 : decode cX3_markersOn 35 = .ok (.ior, 1) := dk_128 (dk_at dksX3_markersOn_1 13 rfl rfl)
theorem dX3_markersOn_36 : decode cX3_markersOn 36 = .ok (.istore_n 2, 1) := dk_61 (dk_at dksX3_markersOn_1 14 rfl rfl)
theorem dX3_markersOn_37 : decode cX3_markersOn 37 = .ok (.iinc 3 1, 3) := dk_132 3 1 (dk_at dksX3_markersOn_1 15 rfl rfl)
theorem dX3_markersOn_40 : decode cX3_markersOn 40 = .ok (.goto (-36), 3) := dk_167 255 220 (dk_at dksX3_markersOn_1 18 rfl rfl)
theorem dX3_markersOn_43 : decode cX3_markersOn 43 = .ok (.iload_n 2, 1) := dk_28 (dk_at dksX3_markersOn_1 21 rfl rfl)
theorem dX3_markersOn_44 : decode cX3_markersOn 44 = .ok (.ireturn, 1) := dk_172 (dk_at dksX3_markersOn_1 22 rfl rfl)
abbrev cX3_beginsAt : ByteArray := prog_21_method_38_code
def yX3_beginsAt : MethodName := ⟨RX3, "beginsAt", "(I)I"⟩
def dkwX3_beginsAt_1 : List UInt8 := [167, 0, 4, 3, 96, 61, 132, 3, 1, 167, 255, 227, 28, 172]
abbrev dktX3_beginsAt_1 : List UInt8 := dkwX3_beginsAt_1 ++ []
def dkwX3_beginsAt_0 : List UInt8 := [3, 61, 3, 62, 29, 42, 180, 0, 145, 162, 0, 27, 28, 42, 180, 0, 46, 29, 46, 27, 160, 0, 7, 4]
abbrev dktX3_beginsAt_0 : List UInt8 := dkwX3_beginsAt_0 ++ dktX3_beginsAt_1
theorem dksX3_beginsAt_0 : cX3_beginsAt.data.toList.drop 0 = dktX3_beginsAt_0 := by decide +kernel
theorem dksX3_beginsAt_1 : cX3_beginsAt.data.toList.drop 24 = dktX3_beginsAt_1 := dk_seg dksX3_beginsAt_0 24 rfl rfl
theorem dX3_beginsAt_0 : decode cX3_beginsAt 0 = .ok (.iconst 0, 1) := dk_3 (dk_at dksX3_beginsAt_0 0 rfl rfl)
theorem dX3_beginsAt_1 : decode cX3_beginsAt 1 = .ok (.istore_n 2, 1) := dk_61 (dk_at dksX3_beginsAt_0 1 rfl rfl)
theorem dX3_beginsAt_2 : decode cX3_beginsAt 2 = .ok (.iconst 0, 1) := dk_3 (dk_at dksX3_beginsAt_0 2 rfl rfl)
theorem dX3_beginsAt_3 : decode cX3_beginsAt 3 = .ok (.istore_n 3, 1) := dk_62 (dk_at dksX3_beginsAt_0 3 rfl rfl)
theorem dX3_beginsAt_4 : decode cX3_beginsAt 4 = .ok (.iload_n 3, 1) := dk_29 (dk_at dksX3_beginsAt_0 4 rfl rfl)
theorem dX3_beginsAt_5 : decode cX3_beginsAt 5 = .ok (.aload_n 0, 1) := dk_42 (dk_at dksX3_beginsAt_0 5 rfl rfl)
theorem dX3_beginsAt_6 : decode cX3_beginsAt 6 = .ok (.getfield 145, 3) := dk_180 0 145 (dk_at dksX3_beginsAt_0 6 rfl rfl)
theorem dX3_beginsAt_9 : decode cX3_beginsAt 9 = .ok (.if_icmp .ge 27, 3) := dk_162 0 27 (dk_at dksX3_beginsAt_0 9 rfl rfl)
theorem dX3_beginsAt_12 : decode cX3_beginsAt 12 = .ok (.iload_n 2, 1) := dk_28 (dk_at dksX3_beginsAt_0 12 rfl rfl)
theorem dX3_beginsAt_13 : decode cX3_beginsAt 13 = .ok (.aload_n 0, 1) := dk_42 (dk_at dksX3_beginsAt_0 13 rfl rfl)
theorem dX3_beginsAt_14 : decode cX3_beginsAt 14 = .ok (.getfield 46, 3) := dk_180 0 46 (dk_at dksX3_beginsAt_0 14 rfl rfl)
theorem dX3_beginsAt_17 : decode cX3_beginsAt 17 = .ok (.iload_n 3, 1) := dk_29 (dk_at dksX3_beginsAt_0 17 rfl rfl)
theorem dX3_beginsAt_18 : decode cX3_beginsAt 18 = .ok (.iaload, 1) := dk_46 (dk_at dksX3_beginsAt_0 18 rfl rfl)
theorem dX3_beginsAt_19 : decode cX3_beginsAt 19 = .ok (.iload_n 1, 1) := dk_27 (dk_at dksX3_beginsAt_0 19 rfl rfl)
theorem dX3_beginsAt_20 : decode cX3_beginsAt 20 = .ok (.if_icmp .ne 7, 3) := dk_160 0 7 (dk_at dksX3_beginsAt_0 20 rfl rfl)
theorem dX3_beginsAt_23 : decode cX3_beginsAt 23 = .ok (.iconst 1, 1) := dk_4 (dk_at dksX3_beginsAt_0 23 rfl rfl)
theorem dX3_beginsAt_24 : decode cX3_beginsAt 24 = .ok (.goto 4, 3) := dk_167 0 4 (dk_at dksX3_beginsAt_1 0 rfl rfl)
theorem dX3_beginsAt_27 : decode cX3_beginsAt 27 = .ok (.iconst 0, 1) := dk_3 (dk_at dksX3_beginsAt_1 3 rfl rfl)
theorem dX3_beginsAt_28 : decode cX3_beginsAt 28 = .ok (.iadd, 1) := dk_96 (dk_at dksX3_beginsAt_1 4 rfl rfl)
theorem dX3_beginsAt_29 : decode cX3_beginsAt 29 = .ok (.istore_n 2, 1) := dk_61 (dk_at dksX3_beginsAt_1 5 rfl rfl)
theorem dX3_beginsAt_30 : decode cX3_beginsAt 30 = .ok (.iinc 3 1, 3) := dk_132 3 1 (dk_at dksX3_beginsAt_1 6 rfl rfl)
theorem dX3_beginsAt_33 : decode cX3_beginsAt 33 = .ok (.goto (-29), 3) := dk_167 255 227 (dk_at dksX3_beginsAt_1 9 rfl rfl)
theorem dX3_beginsAt_36 : decode cX3_beginsAt 36 = .ok (.iload_n 2, 1) := dk_28 (dk_at dksX3_beginsAt_1 12 rfl rfl)
theorem dX3_beginsAt_37 : decode cX3_beginsAt 37 = .ok (.ireturn, 1) := dk_172 (dk_at dksX3_beginsAt_1 13 rfl rfl)
abbrev cX3_blanks : ByteArray := prog_21_method_39_code
def yX3_blanks : MethodName := ⟨RX3, "blanks", "(I)I"⟩
def dkwX3_blanks_1 : List UInt8 := [132, 2, 1, 167, 255, 233, 28, 172]
abbrev dktX3_blanks_1 : List UInt8 := dkwX3_blanks_1 ++ []
def dkwX3_blanks_0 : List UInt8 := [3, 61, 28, 42, 27, 182, 0, 139, 162, 0, 20, 42, 27, 28, 182, 0, 133, 16, 32, 160, 0, 9]
abbrev dktX3_blanks_0 : List UInt8 := dkwX3_blanks_0 ++ dktX3_blanks_1
theorem dksX3_blanks_0 : cX3_blanks.data.toList.drop 0 = dktX3_blanks_0 := by decide +kernel
theorem dksX3_blanks_1 : cX3_blanks.data.toList.drop 22 = dktX3_blanks_1 := dk_seg dksX3_blanks_0 22 rfl rfl
theorem dX3_blanks_0 : decode cX3_blanks 0 = .ok (.iconst 0, 1) := dk_3 (dk_at dksX3_blanks_0 0 rfl rfl)
theorem dX3_blanks_1 : decode cX3_blanks 1 = .ok (.istore_n 2, 1) := dk_61 (dk_at dksX3_blanks_0 1 rfl rfl)
theorem dX3_blanks_2 : decode cX3_blanks 2 = .ok (.iload_n 2, 1) := dk_28 (dk_at dksX3_blanks_0 2 rfl rfl)
theorem dX3_blanks_3 : decode cX3_blanks 3 = .ok (.aload_n 0, 1) := dk_42 (dk_at dksX3_blanks_0 3 rfl rfl)
theorem dX3_blanks_4 : decode cX3_blanks 4 = .ok (.iload_n 1, 1) := dk_27 (dk_at dksX3_blanks_0 4 rfl rfl)
theorem dX3_blanks_5 : decode cX3_blanks 5 = .ok (.invokevirtual 139, 3) := dk_182 0 139 (dk_at dksX3_blanks_0 5 rfl rfl)
theorem dX3_blanks_8 : decode cX3_blanks 8 = .ok (.if_icmp .ge 20, 3) := dk_162 0 20 (dk_at dksX3_blanks_0 8 rfl rfl)
theorem dX3_blanks_11 : decode cX3_blanks 11 = .ok (.aload_n 0, 1) := dk_42 (dk_at dksX3_blanks_0 11 rfl rfl)
theorem dX3_blanks_12 : decode cX3_blanks 12 = .ok (.iload_n 1, 1) := dk_27 (dk_at dksX3_blanks_0 12 rfl rfl)
theorem dX3_blanks_13 : decode cX3_blanks 13 = .ok (.iload_n 2, 1) := dk_28 (dk_at dksX3_blanks_0 13 rfl rfl)
theorem dX3_blanks_14 : decode cX3_blanks 14 = .ok (.invokevirtual 133, 3) := dk_182 0 133 (dk_at dksX3_blanks_0 14 rfl rfl)
theorem dX3_blanks_17 : decode cX3_blanks 17 = .ok (.bipush 32, 2) := dk_16 32 (dk_at dksX3_blanks_0 17 rfl rfl)
theorem dX3_blanks_19 : decode cX3_blanks 19 = .ok (.if_icmp .ne 9, 3) := dk_160 0 9 (dk_at dksX3_blanks_0 19 rfl rfl)
theorem dX3_blanks_22 : decode cX3_blanks 22 = .ok (.iinc 2 1, 3) := dk_132 2 1 (dk_at dksX3_blanks_1 0 rfl rfl)
theorem dX3_blanks_25 : decode cX3_blanks 25 = .ok (.goto (-23), 3) := dk_167 255 233 (dk_at dksX3_blanks_1 3 rfl rfl)
theorem dX3_blanks_28 : decode cX3_blanks 28 = .ok (.iload_n 2, 1) := dk_28 (dk_at dksX3_blanks_1 6 rfl rfl)
theorem dX3_blanks_29 : decode cX3_blanks 29 = .ok (.ireturn, 1) := dk_172 (dk_at dksX3_blanks_1 7 rfl rfl)
abbrev cX3_byteOf : ByteArray := prog_21_method_41_code
def yX3_byteOf : MethodName := ⟨RX3, "byteOf", "(II)I"⟩
def dkwX3_byteOf_1 : List UInt8 := [4, 167, 0, 4, 3, 182, 0, 111, 153, 0, 12, 42, 27, 28, 182, 0, 133, 167, 0, 4, 3, 172]
abbrev dktX3_byteOf_1 : List UInt8 := dkwX3_byteOf_1 ++ []
def dkwX3_byteOf_0 : List UInt8 := [42, 42, 27, 182, 0, 167, 153, 0, 22, 28, 3, 42, 27, 182, 0, 139, 4, 100, 184, 0, 95, 153, 0, 7]
abbrev dktX3_byteOf_0 : List UInt8 := dkwX3_byteOf_0 ++ dktX3_byteOf_1
theorem dksX3_byteOf_0 : cX3_byteOf.data.toList.drop 0 = dktX3_byteOf_0 := by decide +kernel
theorem dksX3_byteOf_1 : cX3_byteOf.data.toList.drop 24 = dktX3_byteOf_1 := dk_seg dksX3_byteOf_0 24 rfl rfl
theorem dX3_byteOf_0 : decode cX3_byteOf 0 = .ok (.aload_n 0, 1) := dk_42 (dk_at dksX3_byteOf_0 0 rfl rfl)
theorem dX3_byteOf_1 : decode cX3_byteOf 1 = .ok (.aload_n 0, 1) := dk_42 (dk_at dksX3_byteOf_0 1 rfl rfl)
theorem dX3_byteOf_2 : decode cX3_byteOf 2 = .ok (.iload_n 1, 1) := dk_27 (dk_at dksX3_byteOf_0 2 rfl rfl)
theorem dX3_byteOf_3 : decode cX3_byteOf 3 = .ok (.invokevirtual 167, 3) := dk_182 0 167 (dk_at dksX3_byteOf_0 3 rfl rfl)
theorem dX3_byteOf_6 : decode cX3_byteOf 6 = .ok (.ifCond .eq 22, 3) := dk_153 0 22 (dk_at dksX3_byteOf_0 6 rfl rfl)
theorem dX3_byteOf_9 : decode cX3_byteOf 9 = .ok (.iload_n 2, 1) := dk_28 (dk_at dksX3_byteOf_0 9 rfl rfl)
theorem dX3_byteOf_10 : decode cX3_byteOf 10 = .ok (.iconst 0, 1) := dk_3 (dk_at dksX3_byteOf_0 10 rfl rfl)
theorem dX3_byteOf_11 : decode cX3_byteOf 11 = .ok (.aload_n 0, 1) := dk_42 (dk_at dksX3_byteOf_0 11 rfl rfl)
theorem dX3_byteOf_12 : decode cX3_byteOf 12 = .ok (.iload_n 1, 1) := dk_27 (dk_at dksX3_byteOf_0 12 rfl rfl)
theorem dX3_byteOf_13 : decode cX3_byteOf 13 = .ok (.invokevirtual 139, 3) := dk_182 0 139 (dk_at dksX3_byteOf_0 13 rfl rfl)
theorem dX3_byteOf_16 : decode cX3_byteOf 16 = .ok (.iconst 1, 1) := dk_4 (dk_at dksX3_byteOf_0 16 rfl rfl)
theorem dX3_byteOf_17 : decode cX3_byteOf 17 = .ok (.isub, 1) := dk_100 (dk_at dksX3_byteOf_0 17 rfl rfl)
theorem dX3_byteOf_18 : decode cX3_byteOf 18 = .ok (.invokestatic 95, 3) := dk_184 0 95 (dk_at dksX3_byteOf_0 18 rfl rfl)
theorem dX3_byteOf_21 : decode cX3_byteOf 21 = .ok (.ifCond .eq 7, 3) := dk_153 0 7 (dk_at dksX3_byteOf_0 21 rfl rfl)
theorem dX3_byteOf_24 : decode cX3_byteOf 24 = .ok (.iconst 1, 1) := dk_4 (dk_at dksX3_byteOf_1 0 rfl rfl)
theorem dX3_byteOf_25 : decode cX3_byteOf 25 = .ok (.goto 4, 3) := dk_167 0 4 (dk_at dksX3_byteOf_1 1 rfl rfl)
theorem dX3_byteOf_28 : decode cX3_byteOf 28 = .ok (.iconst 0, 1) := dk_3 (dk_at dksX3_byteOf_1 4 rfl rfl)
theorem dX3_byteOf_29 : decode cX3_byteOf 29 = .ok (.invokevirtual 111, 3) := dk_182 0 111 (dk_at dksX3_byteOf_1 5 rfl rfl)
theorem dX3_byteOf_32 : decode cX3_byteOf 32 = .ok (.ifCond .eq 12, 3) := dk_153 0 12 (dk_at dksX3_byteOf_1 8 rfl rfl)
theorem dX3_byteOf_35 : decode cX3_byteOf 35 = .ok (.aload_n 0, 1) := dk_42 (dk_at dksX3_byteOf_1 11 rfl rfl)
theorem dX3_byteOf_36 : decode cX3_byteOf 36 = .ok (.iload_n 1, 1) := dk_27 (dk_at dksX3_byteOf_1 12 rfl rfl)
theorem dX3_byteOf_37 : decode cX3_byteOf 37 = .ok (.iload_n 2, 1) := dk_28 (dk_at dksX3_byteOf_1 13 rfl rfl)
theorem dX3_byteOf_38 : decode cX3_byteOf 38 = .ok (.invokevirtual 133, 3) := dk_182 0 133 (dk_at dksX3_byteOf_1 14 rfl rfl)
theorem dX3_byteOf_41 : decode cX3_byteOf 41 = .ok (.goto 4, 3) := dk_167 0 4 (dk_at dksX3_byteOf_1 17 rfl rfl)
theorem dX3_byteOf_44 : decode cX3_byteOf 44 = .ok (.iconst 0, 1) := dk_3 (dk_at dksX3_byteOf_1 20 rfl rfl)
theorem dX3_byteOf_45 : decode cX3_byteOf 45 = .ok (.ireturn, 1) := dk_172 (dk_at dksX3_byteOf_1 21 rfl rfl)
abbrev cX3_lineOfKey : ByteArray := prog_21_method_42_code
def yX3_lineOfKey : MethodName := ⟨RX3, "lineOfKey", "(I)I"⟩
def dkwX3_lineOfKey_0 : List UInt8 := [42, 3, 181, 0, 1, 42, 27, 182, 0, 192, 172]
abbrev dktX3_lineOfKey_0 : List UInt8 := dkwX3_lineOfKey_0 ++ []
theorem dksX3_lineOfKey_0 : cX3_lineOfKey.data.toList.drop 0 = dktX3_lineOfKey_0 := by decide +kernel
theorem dX3_lineOfKey_0 : decode cX3_lineOfKey 0 = .ok (.aload_n 0, 1) := dk_42 (dk_at dksX3_lineOfKey_0 0 rfl rfl)
theorem dX3_lineOfKey_1 : decode cX3_lineOfKey 1 = .ok (.iconst 0, 1) := dk_3 (dk_at dksX3_lineOfKey_0 1 rfl rfl)
theorem dX3_lineOfKey_2 : decode cX3_lineOfKey 2 = .ok (.putfield 1, 3) := dk_181 0 1 (dk_at dksX3_lineOfKey_0 2 rfl rfl)
theorem dX3_lineOfKey_5 : decode cX3_lineOfKey 5 = .ok (.aload_n 0, 1) := dk_42 (dk_at dksX3_lineOfKey_0 5 rfl rfl)
theorem dX3_lineOfKey_6 : decode cX3_lineOfKey 6 = .ok (.iload_n 1, 1) := dk_27 (dk_at dksX3_lineOfKey_0 6 rfl rfl)
theorem dX3_lineOfKey_7 : decode cX3_lineOfKey 7 = .ok (.invokevirtual 192, 3) := dk_182 0 192 (dk_at dksX3_lineOfKey_0 7 rfl rfl)
theorem dX3_lineOfKey_10 : decode cX3_lineOfKey 10 = .ok (.ireturn, 1) := dk_172 (dk_at dksX3_lineOfKey_0 10 rfl rfl)
abbrev cX3_numberOf : ByteArray := prog_21_method_23_code
def yX3_numberOf : MethodName := ⟨RX3, "numberOf", "(I)I"⟩
def dkwX3_numberOf_1 : List UInt8 := [132, 2, 1, 167, 255, 231, 3, 172]
abbrev dktX3_numberOf_1 : List UInt8 := dkwX3_numberOf_1 ++ []
def dkwX3_numberOf_0 : List UInt8 := [4, 61, 28, 42, 180, 0, 13, 3, 46, 163, 0, 21, 42, 28, 3, 182, 0, 129, 27, 160, 0, 5, 28, 172]
abbrev dktX3_numberOf_0 : List UInt8 := dkwX3_numberOf_0 ++ dktX3_numberOf_1
theorem dksX3_numberOf_0 : cX3_numberOf.data.toList.drop 0 = dktX3_numberOf_0 := by decide +kernel
theorem dksX3_numberOf_1 : cX3_numberOf.data.toList.drop 24 = dktX3_numberOf_1 := dk_seg dksX3_numberOf_0 24 rfl rfl
theorem dX3_numberOf_0 : decode cX3_numberOf 0 = .ok (.iconst 1, 1) := dk_4 (dk_at dksX3_numberOf_0 0 rfl rfl)
theorem dX3_numberOf_1 : decode cX3_numberOf 1 = .ok (.istore_n 2, 1) := dk_61 (dk_at dksX3_numberOf_0 1 rfl rfl)
theorem dX3_numberOf_2 : decode cX3_numberOf 2 = .ok (.iload_n 2, 1) := dk_28 (dk_at dksX3_numberOf_0 2 rfl rfl)
theorem dX3_numberOf_3 : decode cX3_numberOf 3 = .ok (.aload_n 0, 1) := dk_42 (dk_at dksX3_numberOf_0 3 rfl rfl)
theorem dX3_numberOf_4 : decode cX3_numberOf 4 = .ok (.getfield 13, 3) := dk_180 0 13 (dk_at dksX3_numberOf_0 4 rfl rfl)
theorem dX3_numberOf_7 : decode cX3_numberOf 7 = .ok (.iconst 0, 1) := dk_3 (dk_at dksX3_numberOf_0 7 rfl rfl)
theorem dX3_numberOf_8 : decode cX3_numberOf 8 = .ok (.iaload, 1) := dk_46 (dk_at dksX3_numberOf_0 8 rfl rfl)
theorem dX3_numberOf_9 : decode cX3_numberOf 9 = .ok (.if_icmp .gt 21, 3) := dk_163 0 21 (dk_at dksX3_numberOf_0 9 rfl rfl)
theorem dX3_numberOf_12 : decode cX3_numberOf 12 = .ok (.aload_n 0, 1) := dk_42 (dk_at dksX3_numberOf_0 12 rfl rfl)
theorem dX3_numberOf_13 : decode cX3_numberOf 13 = .ok (.iload_n 2, 1) := dk_28 (dk_at dksX3_numberOf_0 13 rfl rfl)
theorem dX3_numberOf_14 : decode cX3_numberOf 14 = .ok (.iconst 0, 1) := dk_3 (dk_at dksX3_numberOf_0 14 rfl rfl)
theorem dX3_numberOf_15 : decode cX3_numberOf 15 = .ok (.invokevirtual 129, 3) := dk_182 0 129 (dk_at dksX3_numberOf_0 15 rfl rfl)
theorem dX3_numberOf_18 : decode cX3_numberOf 18 = .ok (.iload_n 1, 1) := dk_27 (dk_at dksX3_numberOf_0 18 rfl rfl)
theorem dX3_numberOf_19 : decode cX3_numberOf 19 = .ok (.if_icmp .ne 5, 3) := dk_160 0 5 (dk_at dksX3_numberOf_0 19 rfl rfl)
theorem dX3_numberOf_22 : decode cX3_numberOf 22 = .ok (.iload_n 2, 1) := dk_28 (dk_at dksX3_numberOf_0 22 rfl rfl)
theorem dX3_numberOf_23 : decode cX3_numberOf 23 = .ok (.ireturn, 1) := dk_172 (dk_at dksX3_numberOf_0 23 rfl rfl)
theorem dX3_numberOf_24 : decode cX3_numberOf 24 = .ok (.iinc 2 1, 3) := dk_132 2 1 (dk_at dksX3_numberOf_1 0 rfl rfl)
theorem dX3_numberOf_27 : decode cX3_numberOf 27 = .ok (.goto (-25), 3) := dk_167 255 231 (dk_at dksX3_numberOf_1 3 rfl rfl)
theorem dX3_numberOf_30 : decode cX3_numberOf 30 = .ok (.iconst 0, 1) := dk_3 (dk_at dksX3_numberOf_1 6 rfl rfl)
theorem dX3_numberOf_31 : decode cX3_numberOf 31 = .ok (.ireturn, 1) := dk_172 (dk_at dksX3_numberOf_1 7 rfl rfl)
abbrev cX3_lineOfRow : ByteArray := prog_21_method_44_code
def yX3_lineOfRow : MethodName := ⟨RX3, "lineOfRow", "(I)I"⟩
def dkwX3_lineOfRow_1 : List UInt8 := [182, 0, 198, 167, 0, 4, 3, 172]
abbrev dktX3_lineOfRow_1 : List UInt8 := dkwX3_lineOfRow_1 ++ []
def dkwX3_lineOfRow_0 : List UInt8 := [42, 182, 0, 174, 42, 27, 4, 42, 182, 0, 195, 184, 0, 95, 182, 0, 111, 153, 0, 11, 42, 27]
abbrev dktX3_lineOfRow_0 : List UInt8 := dkwX3_lineOfRow_0 ++ dktX3_lineOfRow_1
theorem dksX3_lineOfRow_0 : cX3_lineOfRow.data.toList.drop 0 = dktX3_lineOfRow_0 := by decide +kernel
theorem dksX3_lineOfRow_1 : cX3_lineOfRow.data.toList.drop 22 = dktX3_lineOfRow_1 := dk_seg dksX3_lineOfRow_0 22 rfl rfl
theorem dX3_lineOfRow_0 : decode cX3_lineOfRow 0 = .ok (.aload_n 0, 1) := dk_42 (dk_at dksX3_lineOfRow_0 0 rfl rfl)
theorem dX3_lineOfRow_1 : decode cX3_lineOfRow 1 = .ok (.invokevirtual 174, 3) := dk_182 0 174 (dk_at dksX3_lineOfRow_0 1 rfl rfl)
theorem dX3_lineOfRow_4 : decode cX3_lineOfRow 4 = .ok (.aload_n 0, 1) := dk_42 (dk_at dksX3_lineOfRow_0 4 rfl rfl)
theorem dX3_lineOfRow_5 : decode cX3_lineOfRow 5 = .ok (.iload_n 1, 1) := dk_27 (dk_at dksX3_lineOfRow_0 5 rfl rfl)
theorem dX3_lineOfRow_6 : decode cX3_lineOfRow 6 = .ok (.iconst 1, 1) := dk_4 (dk_at dksX3_lineOfRow_0 6 rfl rfl)
theorem dX3_lineOfRow_7 : decode cX3_lineOfRow 7 = .ok (.aload_n 0, 1) := dk_42 (dk_at dksX3_lineOfRow_0 7 rfl rfl)
theorem dX3_lineOfRow_8 : decode cX3_lineOfRow 8 = .ok (.invokevirtual 195, 3) := dk_182 0 195 (dk_at dksX3_lineOfRow_0 8 rfl rfl)
theorem dX3_lineOfRow_11 : decode cX3_lineOfRow 11 = .ok (.invokestatic 95, 3) := dk_184 0 95 (dk_at dksX3_lineOfRow_0 11 rfl rfl)
theorem dX3_lineOfRow_14 : decode cX3_lineOfRow 14 = .ok (.invokevirtual 111, 3) := dk_182 0 111 (dk_at dksX3_lineOfRow_0 14 rfl rfl)
theorem dX3_lineOfRow_17 : decode cX3_lineOfRow 17 = .ok (.ifCond .eq 11, 3) := dk_153 0 11 (dk_at dksX3_lineOfRow_0 17 rfl rfl)
theorem dX3_lineOfRow_20 : decode cX3_lineOfRow 20 = .ok (.aload_n 0, 1) := dk_42 (dk_at dksX3_lineOfRow_0 20 rfl rfl)
theorem dX3_lineOfRow_21 : decode cX3_lineOfRow 21 = .ok (.iload_n 1, 1) := dk_27 (dk_at dksX3_lineOfRow_0 21 rfl rfl)
theorem dX3_lineOfRow_22 : decode cX3_lineOfRow 22 = .ok (.invokevirtual 198, 3) := dk_182 0 198 (dk_at dksX3_lineOfRow_1 0 rfl rfl)
theorem dX3_lineOfRow_25 : decode cX3_lineOfRow 25 = .ok (.goto 4, 3) := dk_167 0 4 (dk_at dksX3_lineOfRow_1 3 rfl rfl)
theorem dX3_lineOfRow_28 : decode cX3_lineOfRow 28 = .ok (.iconst 0, 1) := dk_3 (dk_at dksX3_lineOfRow_1 6 rfl rfl)
theorem dX3_lineOfRow_29 : decode cX3_lineOfRow 29 = .ok (.ireturn, 1) := dk_172 (dk_at dksX3_lineOfRow_1 7 rfl rfl)
abbrev cX3_shownMany : ByteArray := prog_21_method_34_code
def yX3_shownMany : MethodName := ⟨RX3, "shownMany", "()I"⟩
def dkwX3_shownMany_1 : List UInt8 := [3, 167, 0, 4, 4, 96, 60, 132, 2, 1, 167, 255, 226, 27, 172]
abbrev dktX3_shownMany_1 : List UInt8 := dkwX3_shownMany_1 ++ []
def dkwX3_shownMany_0 : List UInt8 := [3, 60, 4, 61, 28, 42, 180, 0, 13, 3, 46, 163, 0, 26, 27, 42, 180, 0, 67, 28, 51, 153, 0, 7]
abbrev dktX3_shownMany_0 : List UInt8 := dkwX3_shownMany_0 ++ dktX3_shownMany_1
theorem dksX3_shownMany_0 : cX3_shownMany.data.toList.drop 0 = dktX3_shownMany_0 := by decide +kernel
theorem dksX3_shownMany_1 : cX3_shownMany.data.toList.drop 24 = dktX3_shownMany_1 := dk_seg dksX3_shownMany_0 24 rfl rfl
theorem dX3_shownMany_0 : decode cX3_shownMany 0 = .ok (.iconst 0, 1) := dk_3 (dk_at dksX3_shownMany_0 0 rfl rfl)
theorem dX3_shownMany_1 : decode cX3_shownMany 1 = .ok (.istore_n 1, 1) := dk_60 (dk_at dksX3_shownMany_0 1 rfl rfl)
theorem dX3_shownMany_2 : decode cX3_shownMany 2 = .ok (.iconst 1, 1) := dk_4 (dk_at dksX3_shownMany_0 2 rfl rfl)
theorem dX3_shownMany_3 : decode cX3_shownMany 3 = .ok (.istore_n 2, 1) := dk_61 (dk_at dksX3_shownMany_0 3 rfl rfl)
theorem dX3_shownMany_4 : decode cX3_shownMany 4 = .ok (.iload_n 2, 1) := dk_28 (dk_at dksX3_shownMany_0 4 rfl rfl)
theorem dX3_shownMany_5 : decode cX3_shownMany 5 = .ok (.aload_n 0, 1) := dk_42 (dk_at dksX3_shownMany_0 5 rfl rfl)
theorem dX3_shownMany_6 : decode cX3_shownMany 6 = .ok (.getfield 13, 3) := dk_180 0 13 (dk_at dksX3_shownMany_0 6 rfl rfl)
theorem dX3_shownMany_9 : decode cX3_shownMany 9 = .ok (.iconst 0, 1) := dk_3 (dk_at dksX3_shownMany_0 9 rfl rfl)
theorem dX3_shownMany_10 : decode cX3_shownMany 10 = .ok (.iaload, 1) := dk_46 (dk_at dksX3_shownMany_0 10 rfl rfl)
theorem dX3_shownMany_11 : decode cX3_shownMany 11 = .ok (.if_icmp .gt 26, 3) := dk_163 0 26 (dk_at dksX3_shownMany_0 11 rfl rfl)
theorem dX3_shownMany_14 : decode cX3_shownMany 14 = .ok (.iload_n 1, 1) := dk_27 (dk_at dksX3_shownMany_0 14 rfl rfl)
theorem dX3_shownMany_15 : decode cX3_shownMany 15 = .ok (.aload_n 0, 1) := dk_42 (dk_at dksX3_shownMany_0 15 rfl rfl)
theorem dX3_shownMany_16 : decode cX3_shownMany 16 = .ok (.getfield 67, 3) := dk_180 0 67 (dk_at dksX3_shownMany_0 16 rfl rfl)
theorem dX3_shownMany_19 : decode cX3_shownMany 19 = .ok (.iload_n 2, 1) := dk_28 (dk_at dksX3_shownMany_0 19 rfl rfl)
theorem dX3_shownMany_20 : decode cX3_shownMany 20 = .ok (.baload, 1) := dk_51 (dk_at dksX3_shownMany_0 20 rfl rfl)
theorem dX3_shownMany_21 : decode cX3_shownMany 21 = .ok (.ifCond .eq 7, 3) := dk_153 0 7 (dk_at dksX3_shownMany_0 21 rfl rfl)
theorem dX3_shownMany_24 : decode cX3_shownMany 24 = .ok (.iconst 0, 1) := dk_3 (dk_at dksX3_shownMany_1 0 rfl rfl)
theorem dX3_shownMany_25 : decode cX3_shownMany 25 = .ok (.goto 4, 3) := dk_167 0 4 (dk_at dksX3_shownMany_1 1 rfl rfl)
theorem dX3_shownMany_28 : decode cX3_shownMany 28 = .ok (.iconst 1, 1) := dk_4 (dk_at dksX3_shownMany_1 4 rfl rfl)
theorem dX3_shownMany_29 : decode cX3_shownMany 29 = .ok (.iadd, 1) := dk_96 (dk_at dksX3_shownMany_1 5 rfl rfl)
theorem dX3_shownMany_30 : decode cX3_shownMany 30 = .ok (.istore_n 1, 1) := dk_60 (dk_at dksX3_shownMany_1 6 rfl rfl)
theorem dX3_shownMany_31 : decode cX3_shownMany 31 = .ok (.iinc 2 1, 3) := dk_132 2 1 (dk_at dksX3_shownMany_1 7 rfl rfl)
theorem dX3_shownMany_34 : decode cX3_shownMany 34 = .ok (.goto (-30), 3) := dk_167 255 226 (dk_at dksX3_shownMany_1 10 rfl rfl)
theorem dX3_shownMany_37 : decode cX3_shownMany 37 = .ok (.iload_n 1, 1) := dk_27 (dk_at dksX3_shownMany_1 13 rfl rfl)
theorem dX3_shownMany_38 : decode cX3_shownMany 38 = .ok (.ireturn, 1) := dk_172 (dk_at dksX3_shownMany_1 14 rfl rfl)
abbrev cX3_lineIn : ByteArray := prog_21_method_43_code
def yX3_lineIn : MethodName := ⟨RX3, "lineIn", "(I)I"⟩
def dkwX3_lineIn_1 : List UInt8 := [167, 255, 235, 28, 172]
abbrev dktX3_lineIn_1 : List UInt8 := dkwX3_lineIn_1 ++ []
def dkwX3_lineIn_0 : List UInt8 := [4, 61, 42, 180, 0, 67, 28, 51, 154, 0, 12, 42, 28, 182, 0, 177, 27, 162, 0, 9, 132, 2, 1]
abbrev dktX3_lineIn_0 : List UInt8 := dkwX3_lineIn_0 ++ dktX3_lineIn_1
theorem dksX3_lineIn_0 : cX3_lineIn.data.toList.drop 0 = dktX3_lineIn_0 := by decide +kernel
theorem dksX3_lineIn_1 : cX3_lineIn.data.toList.drop 23 = dktX3_lineIn_1 := dk_seg dksX3_lineIn_0 23 rfl rfl
theorem dX3_lineIn_0 : decode cX3_lineIn 0 = .ok (.iconst 1, 1) := dk_4 (dk_at dksX3_lineIn_0 0 rfl rfl)
theorem dX3_lineIn_1 : decode cX3_lineIn 1 = .ok (.istore_n 2, 1) := dk_61 (dk_at dksX3_lineIn_0 1 rfl rfl)
theorem dX3_lineIn_2 : decode cX3_lineIn 2 = .ok (.aload_n 0, 1) := dk_42 (dk_at dksX3_lineIn_0 2 rfl rfl)
theorem dX3_lineIn_3 : decode cX3_lineIn 3 = .ok (.getfield 67, 3) := dk_180 0 67 (dk_at dksX3_lineIn_0 3 rfl rfl)
theorem dX3_lineIn_6 : decode cX3_lineIn 6 = .ok (.iload_n 2, 1) := dk_28 (dk_at dksX3_lineIn_0 6 rfl rfl)
theorem dX3_lineIn_7 : decode cX3_lineIn 7 = .ok (.baload, 1) := dk_51 (dk_at dksX3_lineIn_0 7 rfl rfl)
theorem dX3_lineIn_8 : decode cX3_lineIn 8 = .ok (.ifCond .ne 12, 3) := dk_154 0 12 (dk_at dksX3_lineIn_0 8 rfl rfl)
theorem dX3_lineIn_11 : decode cX3_lineIn 11 = .ok (.aload_n 0, 1) := dk_42 (dk_at dksX3_lineIn_0 11 rfl rfl)
theorem dX3_lineIn_12 : decode cX3_lineIn 12 = .ok (.iload_n 2, 1) := dk_28 (dk_at dksX3_lineIn_0 12 rfl rfl)
theorem dX3_lineIn_13 : decode cX3_lineIn 13 = .ok (.invokevirtual 177, 3) := dk_182 0 177 (dk_at dksX3_lineIn_0 13 rfl rfl)
theorem dX3_lineIn_16 : decode cX3_lineIn 16 = .ok (.iload_n 1, 1) := dk_27 (dk_at dksX3_lineIn_0 16 rfl rfl)
theorem dX3_lineIn_17 : decode cX3_lineIn 17 = .ok (.if_icmp .ge 9, 3) := dk_162 0 9 (dk_at dksX3_lineIn_0 17 rfl rfl)
theorem dX3_lineIn_20 : decode cX3_lineIn 20 = .ok (.iinc 2 1, 3) := dk_132 2 1 (dk_at dksX3_lineIn_0 20 rfl rfl)
theorem dX3_lineIn_23 : decode cX3_lineIn 23 = .ok (.goto (-21), 3) := dk_167 255 235 (dk_at dksX3_lineIn_1 0 rfl rfl)
theorem dX3_lineIn_26 : decode cX3_lineIn 26 = .ok (.iload_n 2, 1) := dk_28 (dk_at dksX3_lineIn_1 3 rfl rfl)
theorem dX3_lineIn_27 : decode cX3_lineIn 27 = .ok (.ireturn, 1) := dk_172 (dk_at dksX3_lineIn_1 4 rfl rfl)
abbrev cX3_rowNear : ByteArray := prog_21_method_45_code
def yX3_rowNear : MethodName := ⟨RX3, "rowNear", "(I)I"⟩
def dkwX3_rowNear_0 : List UInt8 := [42, 42, 27, 182, 0, 167, 182, 0, 111, 154, 0, 5, 3, 172, 42, 182, 0, 174, 42, 27, 182, 0, 177, 172]
abbrev dktX3_rowNear_0 : List UInt8 := dkwX3_rowNear_0 ++ []
theorem dksX3_rowNear_0 : cX3_rowNear.data.toList.drop 0 = dktX3_rowNear_0 := by decide +kernel
theorem dX3_rowNear_0 : decode cX3_rowNear 0 = .ok (.aload_n 0, 1) := dk_42 (dk_at dksX3_rowNear_0 0 rfl rfl)
theorem dX3_rowNear_1 : decode cX3_rowNear 1 = .ok (.aload_n 0, 1) := dk_42 (dk_at dksX3_rowNear_0 1 rfl rfl)
theorem dX3_rowNear_2 : decode cX3_rowNear 2 = .ok (.iload_n 1, 1) := dk_27 (dk_at dksX3_rowNear_0 2 rfl rfl)
theorem dX3_rowNear_3 : decode cX3_rowNear 3 = .ok (.invokevirtual 167, 3) := dk_182 0 167 (dk_at dksX3_rowNear_0 3 rfl rfl)
theorem dX3_rowNear_6 : decode cX3_rowNear 6 = .ok (.invokevirtual 111, 3) := dk_182 0 111 (dk_at dksX3_rowNear_0 6 rfl rfl)
theorem dX3_rowNear_9 : decode cX3_rowNear 9 = .ok (.ifCond .ne 5, 3) := dk_154 0 5 (dk_at dksX3_rowNear_0 9 rfl rfl)
theorem dX3_rowNear_12 : decode cX3_rowNear 12 = .ok (.iconst 0, 1) := dk_3 (dk_at dksX3_rowNear_0 12 rfl rfl)
theorem dX3_rowNear_13 : decode cX3_rowNear 13 = .ok (.ireturn, 1) := dk_172 (dk_at dksX3_rowNear_0 13 rfl rfl)
theorem dX3_rowNear_14 : decode cX3_rowNear 14 = .ok (.aload_n 0, 1) := dk_42 (dk_at dksX3_rowNear_0 14 rfl rfl)
theorem dX3_rowNear_15 : decode cX3_rowNear 15 = .ok (.invokevirtual 174, 3) := dk_182 0 174 (dk_at dksX3_rowNear_0 15 rfl rfl)
theorem dX3_rowNear_18 : decode cX3_rowNear 18 = .ok (.aload_n 0, 1) := dk_42 (dk_at dksX3_rowNear_0 18 rfl rfl)
theorem dX3_rowNear_19 : decode cX3_rowNear 19 = .ok (.iload_n 1, 1) := dk_27 (dk_at dksX3_rowNear_0 19 rfl rfl)
theorem dX3_rowNear_20 : decode cX3_rowNear 20 = .ok (.invokevirtual 177, 3) := dk_182 0 177 (dk_at dksX3_rowNear_0 20 rfl rfl)
theorem dX3_rowNear_23 : decode cX3_rowNear 23 = .ok (.ireturn, 1) := dk_172 (dk_at dksX3_rowNear_0 23 rfl rfl)
abbrev cX3_rowsBetween : ByteArray := prog_21_method_46_code
def yX3_rowsBetween : MethodName := ⟨RX3, "rowsBetween", "(II)I"⟩
def dkwX3_rowsBetween_3 : List UInt8 := [167, 0, 4, 4, 96, 172]
abbrev dktX3_rowsBetween_3 : List UInt8 := dkwX3_rowsBetween_3 ++ []
def dkwX3_rowsBetween_2 : List UInt8 := [54, 4, 42, 21, 4, 182, 0, 177, 42, 29, 182, 0, 177, 100, 42, 180, 0, 67, 29, 51, 153, 0, 7, 3]
abbrev dktX3_rowsBetween_2 : List UInt8 := dkwX3_rowsBetween_2 ++ dktX3_rowsBetween_3
def dkwX3_rowsBetween_1 : List UInt8 := [182, 0, 111, 154, 0, 5, 3, 172, 42, 182, 0, 174, 27, 28, 184, 0, 201, 62, 27, 28, 184, 0, 206]
abbrev dktX3_rowsBetween_1 : List UInt8 := dkwX3_rowsBetween_1 ++ dktX3_rowsBetween_2
def dkwX3_rowsBetween_0 : List UInt8 := [42, 42, 27, 182, 0, 167, 153, 0, 15, 42, 28, 182, 0, 167, 153, 0, 7, 4, 167, 0, 4, 3]
abbrev dktX3_rowsBetween_0 : List UInt8 := dkwX3_rowsBetween_0 ++ dktX3_rowsBetween_1
theorem dksX3_rowsBetween_0 : cX3_rowsBetween.data.toList.drop 0 = dktX3_rowsBetween_0 := by decide +kernel
theorem dksX3_rowsBetween_1 : cX3_rowsBetween.data.toList.drop 22 = dktX3_rowsBetween_1 := dk_seg dksX3_rowsBetween_0 22 rfl rfl
theorem dksX3_rowsBetween_2 : cX3_rowsBetween.data.toList.drop 45 = dktX3_rowsBetween_2 := dk_seg dksX3_rowsBetween_1 23 rfl rfl
theorem dksX3_rowsBetween_3 : cX3_rowsBetween.data.toList.drop 69 = dktX3_rowsBetween_3 := dk_seg dksX3_rowsBetween_2 24 rfl rfl
theorem dX3_rowsBetween_0 : decode cX3_rowsBetween 0 = .ok (.aload_n 0, 1) := dk_42 (dk_at dksX3_rowsBetween_0 0 rfl rfl)
theorem dX3_rowsBetween_1 : decode cX3_rowsBetween 1 = .ok (.aload_n 0, 1) := dk_42 (dk_at dksX3_rowsBetween_0 1 rfl rfl)
theorem dX3_rowsBetween_2 : decode cX3_rowsBetween 2 = .ok (.iload_n 1, 1) := dk_27 (dk_at dksX3_rowsBetween_0 2 rfl rfl)
theorem dX3_rowsBetween_3 : decode cX3_rowsBetween 3 = .ok (.invokevirtual 167, 3) := dk_182 0 167 (dk_at dksX3_rowsBetween_0 3 rfl rfl)
theorem dX3_rowsBetween_6 : decode cX3_rowsBetween 6 = .ok (.ifCond .eq 15, 3) := dk_153 0 15 (dk_at dksX3_rowsBetween_0 6 rfl rfl)
theorem dX3_rowsBetween_9 : decode cX3_rowsBetween 9 = .ok (.aload_n 0, 1) := dk_42 (dk_at dksX3_rowsBetween_0 9 rfl rfl)
theorem dX3_rowsBetween_10 : decode cX3_rowsBetween 10 = .ok (.iload_n 2, 1) := dk_28 (dk_at dksX3_rowsBetween_0 10 rfl rfl)
theorem dX3_rowsBetween_11 : decode cX3_rowsBetween 11 = .ok (.invokevirtual 167, 3) := dk_182 0 167 (dk_at dksX3_rowsBetween_0 11 rfl rfl)
theorem dX3_rowsBetween_14 : decode cX3_rowsBetween 14 = .ok (.ifCond .eq 7, 3) := dk_153 0 7 (dk_at dksX3_rowsBetween_0 14 rfl rfl)
theorem dX3_rowsBetween_17 : decode cX3_rowsBetween 17 = .ok (.iconst 1, 1) := dk_4 (dk_at dksX3_rowsBetween_0 17 rfl rfl)
theorem dX3_rowsBetween_18 : decode cX3_rowsBetween 18 = .ok (.goto 4, 3) := dk_167 0 4 (dk_at dksX3_rowsBetween_0 18 rfl rfl)
theorem dX3_rowsBetween_21 : decode cX3_rowsBetween 21 = .ok (.iconst 0, 1) := dk_3 (dk_at dksX3_rowsBetween_0 21 rfl rfl)
theorem dX3_rowsBetween_22 : decode cX3_rowsBetween 22 = .ok (.invokevirtual 111, 3) := dk_182 0 111 (dk_at dksX3_rowsBetween_1 0 rfl rfl)
theorem dX3_rowsBetween_25 : decode cX3_rowsBetween 25 = .ok (.ifCond .ne 5, 3) := dk_154 0 5 (dk_at dksX3_rowsBetween_1 3 rfl rfl)
theorem dX3_rowsBetween_28 : decode cX3_rowsBetween 28 = .ok (.iconst 0, 1) := dk_3 (dk_at dksX3_rowsBetween_1 6 rfl rfl)
theorem dX3_rowsBetween_29 : decode cX3_rowsBetween 29 = .ok (.ireturn, 1) := dk_172 (dk_at dksX3_rowsBetween_1 7 rfl rfl)
theorem dX3_rowsBetween_30 : decode cX3_rowsBetween 30 = .ok (.aload_n 0, 1) := dk_42 (dk_at dksX3_rowsBetween_1 8 rfl rfl)
theorem dX3_rowsBetween_31 : decode cX3_rowsBetween 31 = .ok (.invokevirtual 174, 3) := dk_182 0 174 (dk_at dksX3_rowsBetween_1 9 rfl rfl)
theorem dX3_rowsBetween_34 : decode cX3_rowsBetween 34 = .ok (.iload_n 1, 1) := dk_27 (dk_at dksX3_rowsBetween_1 12 rfl rfl)
theorem dX3_rowsBetween_35 : decode cX3_rowsBetween 35 = .ok (.iload_n 2, 1) := dk_28 (dk_at dksX3_rowsBetween_1 13 rfl rfl)
theorem dX3_rowsBetween_36 : decode cX3_rowsBetween 36 = .ok (.invokestatic 201, 3) := dk_184 0 201 (dk_at dksX3_rowsBetween_1 14 rfl rfl)
theorem dX3_rowsBetween_39 : decode cX3_rowsBetween 39 = .ok (.istore_n 3, 1) := dk_62 (dk_at dksX3_rowsBetween_1 17 rfl rfl)
theorem dX3_rowsBetween_40 : decode cX3_rowsBetween 40 = .ok (.iload_n 1, 1) := dk_27 (dk_at dksX3_rowsBetween_1 18 rfl rfl)
theorem dX3_rowsBetween_41 : decode cX3_rowsBetween 41 = .ok (.iload_n 2, 1) := dk_28 (dk_at dksX3_rowsBetween_1 19 rfl rfl)
theorem dX3_rowsBetween_42 : decode cX3_rowsBetween 42 = .ok (.invokestatic 206, 3) := dk_184 0 206 (dk_at dksX3_rowsBetween_1 20 rfl rfl)
theorem dX3_rowsBetween_45 : decode cX3_rowsBetween 45 = .ok (.istore 4, 2) := dk_54 4 (dk_at dksX3_rowsBetween_2 0 rfl rfl)
theorem dX3_rowsBetween_47 : decode cX3_rowsBetween 47 = .ok (.aload_n 0, 1) := dk_42 (dk_at dksX3_rowsBetween_2 2 rfl rfl)
theorem dX3_rowsBetween_48 : decode cX3_rowsBetween 48 = .ok (.iload 4, 2) := dk_21 4 (dk_at dksX3_rowsBetween_2 3 rfl rfl)
theorem dX3_rowsBetween_50 : decode cX3_rowsBetween 50 = .ok (.invokevirtual 177, 3) := dk_182 0 177 (dk_at dksX3_rowsBetween_2 5 rfl rfl)
theorem dX3_rowsBetween_53 : decode cX3_rowsBetween 53 = .ok (.aload_n 0, 1) := dk_42 (dk_at dksX3_rowsBetween_2 8 rfl rfl)
theorem dX3_rowsBetween_54 : decode cX3_rowsBetween 54 = .ok (.iload_n 3, 1) := dk_29 (dk_at dksX3_rowsBetween_2 9 rfl rfl)
theorem dX3_rowsBetween_55 : decode cX3_rowsBetween 55 = .ok (.invokevirtual 177, 3) := dk_182 0 177 (dk_at dksX3_rowsBetween_2 10 rfl rfl)
theorem dX3_rowsBetween_58 : decode cX3_rowsBetween 58 = .ok (.isub, 1) := dk_100 (dk_at dksX3_rowsBetween_2 13 rfl rfl)
theorem dX3_rowsBetween_59 : decode cX3_rowsBetween 59 = .ok (.aload_n 0, 1) := dk_42 (dk_at dksX3_rowsBetween_2 14 rfl rfl)
theorem dX3_rowsBetween_60 : decode cX3_rowsBetween 60 = .ok (.getfield 67, 3) := dk_180 0 67 (dk_at dksX3_rowsBetween_2 15 rfl rfl)
theorem dX3_rowsBetween_63 : decode cX3_rowsBetween 63 = .ok (.iload_n 3, 1) := dk_29 (dk_at dksX3_rowsBetween_2 18 rfl rfl)
theorem dX3_rowsBetween_64 : decode cX3_rowsBetween 64 = .ok (.baload, 1) := dk_51 (dk_at dksX3_rowsBetween_2 19 rfl rfl)
theorem dX3_rowsBetween_65 : decode cX3_rowsBetween 65 = .ok (.ifCond .eq 7, 3) := dk_153 0 7 (dk_at dksX3_rowsBetween_2 20 rfl rfl)
theorem dX3_rowsBetween_68 : decode cX3_rowsBetween 68 = .ok (.iconst 0, 1) := dk_3 (dk_at dksX3_rowsBetween_2 23 rfl rfl)
theorem dX3_rowsBetween_69 : decode cX3_rowsBetween 69 = .ok (.goto 4, 3) := dk_167 0 4 (dk_at dksX3_rowsBetween_3 0 rfl rfl)
theorem dX3_rowsBetween_72 : decode cX3_rowsBetween 72 = .ok (.iconst 1, 1) := dk_4 (dk_at dksX3_rowsBetween_3 3 rfl rfl)
theorem dX3_rowsBetween_73 : decode cX3_rowsBetween 73 = .ok (.iadd, 1) := dk_96 (dk_at dksX3_rowsBetween_3 4 rfl rfl)
theorem dX3_rowsBetween_74 : decode cX3_rowsBetween 74 = .ok (.ireturn, 1) := dk_172 (dk_at dksX3_rowsBetween_3 5 rfl rfl)
abbrev cX3_widest : ByteArray := prog_21_method_47_code
def yX3_widest : MethodName := ⟨RX3, "widest", "()I"⟩
def dkwX3_widest_2 : List UInt8 := [164, 0, 5, 28, 60, 132, 2, 1, 167, 255, 215, 27, 172]
abbrev dktX3_widest_2 : List UInt8 := dkwX3_widest_2 ++ []
def dkwX3_widest_1 : List UInt8 := [180, 0, 67, 28, 51, 154, 0, 22, 27, 153, 0, 16, 42, 28, 182, 0, 139, 42, 27, 182, 0, 139]
abbrev dktX3_widest_1 : List UInt8 := dkwX3_widest_1 ++ dktX3_widest_2
def dkwX3_widest_0 : List UInt8 := [42, 3, 181, 0, 1, 42, 182, 0, 174, 3, 60, 4, 61, 28, 42, 180, 0, 13, 3, 46, 163, 0, 37, 42]
abbrev dktX3_widest_0 : List UInt8 := dkwX3_widest_0 ++ dktX3_widest_1
theorem dksX3_widest_0 : cX3_widest.data.toList.drop 0 = dktX3_widest_0 := by decide +kernel
theorem dksX3_widest_1 : cX3_widest.data.toList.drop 24 = dktX3_widest_1 := dk_seg dksX3_widest_0 24 rfl rfl
theorem dksX3_widest_2 : cX3_widest.data.toList.drop 46 = dktX3_widest_2 := dk_seg dksX3_widest_1 22 rfl rfl
theorem dX3_widest_0 : decode cX3_widest 0 = .ok (.aload_n 0, 1) := dk_42 (dk_at dksX3_widest_0 0 rfl rfl)
theorem dX3_widest_1 : decode cX3_widest 1 = .ok (.iconst 0, 1) := dk_3 (dk_at dksX3_widest_0 1 rfl rfl)
theorem dX3_widest_2 : decode cX3_widest 2 = .ok (.putfield 1, 3) := dk_181 0 1 (dk_at dksX3_widest_0 2 rfl rfl)
theorem dX3_widest_5 : decode cX3_widest 5 = .ok (.aload_n 0, 1) := dk_42 (dk_at dksX3_widest_0 5 rfl rfl)
theorem dX3_widest_6 : decode cX3_widest 6 = .ok (.invokevirtual 174, 3) := dk_182 0 174 (dk_at dksX3_widest_0 6 rfl rfl)
theorem dX3_widest_9 : decode cX3_widest 9 = .ok (.iconst 0, 1) := dk_3 (dk_at dksX3_widest_0 9 rfl rfl)
theorem dX3_widest_10 : decode cX3_widest 10 = .ok (.istore_n 1, 1) := dk_60 (dk_at dksX3_widest_0 10 rfl rfl)
theorem dX3_widest_11 : decode cX3_widest 11 = .ok (.iconst 1, 1) := dk_4 (dk_at dksX3_widest_0 11 rfl rfl)
theorem dX3_widest_12 : decode cX3_widest 12 = .ok (.istore_n 2, 1) := dk_61 (dk_at dksX3_widest_0 12 rfl rfl)
theorem dX3_widest_13 : decode cX3_widest 13 = .ok (.iload_n 2, 1) := dk_28 (dk_at dksX3_widest_0 13 rfl rfl)
theorem dX3_widest_14 : decode cX3_widest 14 = .ok (.aload_n 0, 1) := dk_42 (dk_at dksX3_widest_0 14 rfl rfl)
theorem dX3_widest_15 : decode cX3_widest 15 = .ok (.getfield 13, 3) := dk_180 0 13 (dk_at dksX3_widest_0 15 rfl rfl)
theorem dX3_widest_18 : decode cX3_widest 18 = .ok (.iconst 0, 1) := dk_3 (dk_at dksX3_widest_0 18 rfl rfl)
theorem dX3_widest_19 : decode cX3_widest 19 = .ok (.iaload, 1) := dk_46 (dk_at dksX3_widest_0 19 rfl rfl)
theorem dX3_widest_20 : decode cX3_widest 20 = .ok (.if_icmp .gt 37, 3) := dk_163 0 37 (dk_at dksX3_widest_0 20 rfl rfl)
theorem dX3_widest_23 : decode cX3_widest 23 = .ok (.aload_n 0, 1) := dk_42 (dk_at dksX3_widest_0 23 rfl rfl)
theorem dX3_widest_24 : decode cX3_widest 24 = .ok (.getfield 67, 3) := dk_180 0 67 (dk_at dksX3_widest_1 0 rfl rfl)
theorem dX3_widest_27 : decode cX3_widest 27 = .ok (.iload_n 2, 1) := dk_28 (dk_at dksX3_widest_1 3 rfl rfl)
theorem dX3_widest_28 : decode cX3_widest 28 = .ok (.baload, 1) := dk_51 (dk_at dksX3_widest_1 4 rfl rfl)
theorem dX3_widest_29 : decode cX3_widest 29 = .ok (.ifCond .ne 22, 3) := dk_154 0 22 (dk_at dksX3_widest_1 5 rfl rfl)
theorem dX3_widest_32 : decode cX3_widest 32 = .ok (.iload_n 1, 1) := dk_27 (dk_at dksX3_widest_1 8 rfl rfl)
theorem dX3_widest_33 : decode cX3_widest 33 = .ok (.ifCond .eq 16, 3) := dk_153 0 16 (dk_at dksX3_widest_1 9 rfl rfl)
theorem dX3_widest_36 : decode cX3_widest 36 = .ok (.aload_n 0, 1) := dk_42 (dk_at dksX3_widest_1 12 rfl rfl)
theorem dX3_widest_37 : decode cX3_widest 37 = .ok (.iload_n 2, 1) := dk_28 (dk_at dksX3_widest_1 13 rfl rfl)
theorem dX3_widest_38 : decode cX3_widest 38 = .ok (.invokevirtual 139, 3) := dk_182 0 139 (dk_at dksX3_widest_1 14 rfl rfl)
theorem dX3_widest_41 : decode cX3_widest 41 = .ok (.aload_n 0, 1) := dk_42 (dk_at dksX3_widest_1 17 rfl rfl)
theorem dX3_widest_42 : decode cX3_widest 42 = .ok (.iload_n 1, 1) := dk_27 (dk_at dksX3_widest_1 18 rfl rfl)
theorem dX3_widest_43 : decode cX3_widest 43 = .ok (.invokevirtual 139, 3) := dk_182 0 139 (dk_at dksX3_widest_1 19 rfl rfl)
theorem dX3_widest_46 : decode cX3_widest 46 = .ok (.if_icmp .le 5, 3) := dk_164 0 5 (dk_at dksX3_widest_2 0 rfl rfl)
theorem dX3_widest_49 : decode cX3_widest 49 = .ok (.iload_n 2, 1) := dk_28 (dk_at dksX3_widest_2 3 rfl rfl)
theorem dX3_widest_50 : decode cX3_widest 50 = .ok (.istore_n 1, 1) := dk_60 (dk_at dksX3_widest_2 4 rfl rfl)
theorem dX3_widest_51 : decode cX3_widest 51 = .ok (.iinc 2 1, 3) := dk_132 2 1 (dk_at dksX3_widest_2 5 rfl rfl)
theorem dX3_widest_54 : decode cX3_widest 54 = .ok (.goto (-41), 3) := dk_167 255 215 (dk_at dksX3_widest_2 8 rfl rfl)
theorem dX3_widest_57 : decode cX3_widest 57 = .ok (.iload_n 1, 1) := dk_27 (dk_at dksX3_widest_2 11 rfl rfl)
theorem dX3_widest_58 : decode cX3_widest 58 = .ok (.ireturn, 1) := dk_172 (dk_at dksX3_widest_2 12 rfl rfl)
abbrev cX3_seek : ByteArray := prog_21_method_50_code
def yX3_seek : MethodName := ⟨RX3, "seek", "(IIZ)I"⟩
def dkwX3_seek_4 : List UInt8 := [182, 0, 212, 153, 0, 6, 21, 5, 172, 132, 4, 1, 167, 255, 198, 3, 172]
abbrev dktX3_seek_4 : List UInt8 := dkwX3_seek_4 ++ []
def dkwX3_seek_3 : List UInt8 := [4, 96, 54, 5, 29, 153, 0, 13, 42, 180, 0, 67, 21, 5, 51, 154, 0, 16, 42, 21, 5, 27]
abbrev dktX3_seek_3 : List UInt8 := dkwX3_seek_3 ++ dktX3_seek_4
def dkwX3_seek_2 : List UInt8 := [21, 4, 42, 180, 0, 13, 3, 46, 162, 0, 53, 28, 4, 100, 21, 4, 96, 42, 180, 0, 13, 3, 46, 112]
abbrev dktX3_seek_2 : List UInt8 := dkwX3_seek_2 ++ dktX3_seek_3
def dkwX3_seek_1 : List UInt8 := [167, 0, 4, 3, 182, 0, 111, 154, 0, 5, 3, 172, 42, 3, 181, 0, 85, 42, 182, 0, 174, 3, 54, 4]
abbrev dktX3_seek_1 : List UInt8 := dkwX3_seek_1 ++ dktX3_seek_2
def dkwX3_seek_0 : List UInt8 := [42, 27, 4, 42, 180, 0, 85, 184, 0, 95, 153, 0, 15, 42, 28, 182, 0, 167, 153, 0, 7, 4]
abbrev dktX3_seek_0 : List UInt8 := dkwX3_seek_0 ++ dktX3_seek_1
theorem dksX3_seek_0 : cX3_seek.data.toList.drop 0 = dktX3_seek_0 := by decide +kernel
theorem dksX3_seek_1 : cX3_seek.data.toList.drop 22 = dktX3_seek_1 := dk_seg dksX3_seek_0 22 rfl rfl
theorem dksX3_seek_2 : cX3_seek.data.toList.drop 46 = dktX3_seek_2 := dk_seg dksX3_seek_1 24 rfl rfl
theorem dksX3_seek_3 : cX3_seek.data.toList.drop 70 = dktX3_seek_3 := dk_seg dksX3_seek_2 24 rfl rfl
theorem dksX3_seek_4 : cX3_seek.data.toList.drop 92 = dktX3_seek_4 := dk_seg dksX3_seek_3 22 rfl rfl
theorem dX3_seek_0 : decode cX3_seek 0 = .ok (.aload_n 0, 1) := dk_42 (dk_at dksX3_seek_0 0 rfl rfl)
theorem dX3_seek_1 : decode cX3_seek 1 = .ok (.iload_n 1, 1) := dk_27 (dk_at dksX3_seek_0 1 rfl rfl)
theorem dX3_seek_2 : decode cX3_seek 2 = .ok (.iconst 1, 1) := dk_4 (dk_at dksX3_seek_0 2 rfl rfl)
theorem dX3_seek_3 : decode cX3_seek 3 = .ok (.aload_n 0, 1) := dk_42 (dk_at dksX3_seek_0 3 rfl rfl)
theorem dX3_seek_4 : decode cX3_seek 4 = .ok (.getfield 85, 3) := dk_180 0 85 (dk_at dksX3_seek_0 4 rfl rfl)
theorem dX3_seek_7 : decode cX3_seek 7 = .ok (.invokestatic 95, 3) := dk_184 0 95 (dk_at dksX3_seek_0 7 rfl rfl)
theorem dX3_seek_10 : decode cX3_seek 10 = .ok (.ifCond .eq 15, 3) := dk_153 0 15 (dk_at dksX3_seek_0 10 rfl rfl)
theorem dX3_seek_13 : decode cX3_seek 13 = .ok (.aload_n 0, 1) := dk_42 (dk_at dksX3_seek_0 13 rfl rfl)
theorem dX3_seek_14 : decode cX3_seek 14 = .ok (.iload_n 2, 1) := dk_28 (dk_at dksX3_seek_0 14 rfl rfl)
theorem dX3_seek_15 : decode cX3_seek 15 = .ok (.invokevirtual 167, 3) := dk_182 0 167 (dk_at dksX3_seek_0 15 rfl rfl)
theorem dX3_seek_18 : decode cX3_seek 18 = .ok (.ifCond .eq 7, 3) := dk_153 0 7 (dk_at dksX3_seek_0 18 rfl rfl)
theorem dX3_seek_21 : decode cX3_seek 21 = .ok (.iconst 1, 1) := dk_4 (dk_at dksX3_seek_0 21 rfl rfl)
theorem dX3_seek_22 : decode cX3_seek 22 = .ok (.goto 4, 3) := dk_167 0 4 (dk_at dksX3_seek_1 0 rfl rfl)
theorem dX3_seek_25 : decode cX3_seek 25 = .ok (.iconst 0, 1) := dk_3 (dk_at dksX3_seek_1 3 rfl rfl)
theorem dX3_seek_26 : decode cX3_seek 26 = .ok (.invokevirtual 111, 3) := dk_182 0 111 (dk_at dksX3_seek_1 4 rfl rfl)
theorem dX3_seek_29 : decode cX3_seek 29 = .ok (.ifCond .ne 5, 3) := dk_154 0 5 (dk_at dksX3_seek_1 7 rfl rfl)
theorem dX3_seek_32 : decode cX3_seek 32 = .ok (.iconst 0, 1) := dk_3 (dk_at dksX3_seek_1 10 rfl rfl)
theorem dX3_seek_33 : decode cX3_seek 33 = .ok (.ireturn, 1) := dk_172 (dk_at dksX3_seek_1 11 rfl rfl)
theorem dX3_seek_34 : decode cX3_seek 34 = .ok (.aload_n 0, 1) := dk_42 (dk_at dksX3_seek_1 12 rfl rfl)
theorem dX3_seek_35 : decode cX3_seek 35 = .ok (.iconst 0, 1) := dk_3 (dk_at dksX3_seek_1 13 rfl rfl)
theorem dX3_seek_36 : decode cX3_seek 36 = .ok (.putfield 85, 3) := dk_181 0 85 (dk_at dksX3_seek_1 14 rfl rfl)
theorem dX3_seek_39 : decode cX3_seek 39 = .ok (.aload_n 0, 1) := dk_42 (dk_at dksX3_seek_1 17 rfl rfl)
theorem dX3_seek_40 : decode cX3_seek 40 = .ok (.invokevirtual 174, 3) := dk_182 0 174 (dk_at dksX3_seek_1 18 rfl rfl)
theorem dX3_seek_43 : decode cX3_seek 43 = .ok (.iconst 0, 1) := dk_3 (dk_at dksX3_seek_1 21 rfl rfl)
theorem dX3_seek_44 : decode cX3_seek 44 = .ok (.istore 4, 2) := dk_54 4 (dk_at dksX3_seek_1 22 rfl rfl)
theorem dX3_seek_46 : decode cX3_seek 46 = .ok (.iload 4, 2) := dk_21 4 (dk_at dksX3_seek_2 0 rfl rfl)
theorem dX3_seek_48 : decode cX3_seek 48 = .ok (.aload_n 0, 1) := dk_42 (dk_at dksX3_seek_2 2 rfl rfl)
theorem dX3_seek_49 : decode cX3_seek 49 = .ok (.getfield 13, 3) := dk_180 0 13 (dk_at dksX3_seek_2 3 rfl rfl)
theorem dX3_seek_52 : decode cX3_seek 52 = .ok (.iconst 0, 1) := dk_3 (dk_at dksX3_seek_2 6 rfl rfl)
theorem dX3_seek_53 : decode cX3_seek 53 = .ok (.iaload, 1) := dk_46 (dk_at dksX3_seek_2 7 rfl rfl)
theorem dX3_seek_54 : decode cX3_seek 54 = .ok (.if_icmp .ge 53, 3) := dk_162 0 53 (dk_at dksX3_seek_2 8 rfl rfl)
theorem dX3_seek_57 : decode cX3_seek 57 = .ok (.iload_n 2, 1) := dk_28 (dk_at dksX3_seek_2 11 rfl rfl)
theorem dX3_seek_58 : decode cX3_seek 58 = .ok (.iconst 1, 1) := dk_4 (dk_at dksX3_seek_2 12 rfl rfl)
theorem dX3_seek_59 : decode cX3_seek 59 = .ok (.isub, 1) := dk_100 (dk_at dksX3_seek_2 13 rfl rfl)
theorem dX3_seek_60 : decode cX3_seek 60 = .ok (.iload 4, 2) := dk_21 4 (dk_at dksX3_seek_2 14 rfl rfl)
theorem dX3_seek_62 : decode cX3_seek 62 = .ok (.iadd, 1) := dk_96 (dk_at dksX3_seek_2 16 rfl rfl)
theorem dX3_seek_63 : decode cX3_seek 63 = .ok (.aload_n 0, 1) := dk_42 (dk_at dksX3_seek_2 17 rfl rfl)
theorem dX3_seek_64 : decode cX3_seek 64 = .ok (.getfield 13, 3) := dk_180 0 13 (dk_at dksX3_seek_2 18 rfl rfl)
theorem dX3_seek_67 : decode cX3_seek 67 = .ok (.iconst 0, 1) := dk_3 (dk_at dksX3_seek_2 21 rfl rfl)
theorem dX3_seek_68 : decode cX3_seek 68 = .ok (.iaload, 1) := dk_46 (dk_at dksX3_seek_2 22 rfl rfl)
theorem dX3_seek_69 : decode cX3_seek 69 = .ok (.irem, 1) := dk_112 (dk_at dksX3_seek_2 23 rfl rfl)
theorem dX3_seek_70 : decode cX3_seek 70 = .ok (.iconst 1, 1) := dk_4 (dk_at dksX3_seek_3 0 rfl rfl)
theorem dX3_seek_71 : decode cX3_seek 71 = .ok (.iadd, 1) := dk_96 (dk_at dksX3_seek_3 1 rfl rfl)
theorem dX3_seek_72 : decode cX3_seek 72 = .ok (.istore 5, 2) := dk_54 5 (dk_at dksX3_seek_3 2 rfl rfl)
theorem dX3_seek_74 : decode cX3_seek 74 = .ok (.iload_n 3, 1) := dk_29 (dk_at dksX3_seek_3 4 rfl rfl)
theorem dX3_seek_75 : decode cX3_seek 75 = .ok (.ifCond .eq 13, 3) := dk_153 0 13 (dk_at dksX3_seek_3 5 rfl rfl)
theorem dX3_seek_78 : decode cX3_seek 78 = .ok (.aload_n 0, 1) := dk_42 (dk_at dksX3_seek_3 8 rfl rfl)
theorem dX3_seek_79 : decode cX3_seek 79 = .ok (.getfield 67, 3) := dk_180 0 67 (dk_at dksX3_seek_3 9 rfl rfl)
theorem dX3_seek_82 : decode cX3_seek 82 = .ok (.iload 5, 2) := dk_21 5 (dk_at dksX3_seek_3 12 rfl rfl)
theorem dX3_seek_84 : decode cX3_seek 84 = .ok (.baload, 1) := dk_51 (dk_at dksX3_seek_3 14 rfl rfl)
theorem dX3_seek_85 : decode cX3_seek 85 = .ok (.ifCond .ne 16, 3) := dk_154 0 16 (dk_at dksX3_seek_3 15 rfl rfl)
theorem dX3_seek_88 : decode cX3_seek 88 = .ok (.aload_n 0, 1) := dk_42 (dk_at dksX3_seek_3 18 rfl rfl)
theorem dX3_seek_89 : decode cX3_seek 89 = .ok (.iload 5, 2) := dk_21 5 (dk_at dksX3_seek_3 19 rfl rfl)
theorem dX3_seek_91 : decode cX3_seek 91 = .ok (.iload_n 1, 1) := dk_27 (dk_at dksX3_seek_3 21 rfl rfl)
theorem dX3_seek_92 : decode cX3_seek 92 = .ok (.invokevirtual 212, 3) := dk_182 0 212 (dk_at dksX3_seek_4 0 rfl rfl)
theorem dX3_seek_95 : decode cX3_seek 95 = .ok (.ifCond .eq 6, 3) := dk_153 0 6 (dk_at dksX3_seek_4 3 rfl rfl)
theorem dX3_seek_98 : decode cX3_seek 98 = .ok (.iload 5, 2) := dk_21 5 (dk_at dksX3_seek_4 6 rfl rfl)
theorem dX3_seek_100 : decode cX3_seek 100 = .ok (.ireturn, 1) := dk_172 (dk_at dksX3_seek_4 8 rfl rfl)
theorem dX3_seek_101 : decode cX3_seek 101 = .ok (.iinc 4 1, 3) := dk_132 4 1 (dk_at dksX3_seek_4 9 rfl rfl)
theorem dX3_seek_104 : decode cX3_seek 104 = .ok (.goto (-58), 3) := dk_167 255 198 (dk_at dksX3_seek_4 12 rfl rfl)
theorem dX3_seek_107 : decode cX3_seek 107 = .ok (.iconst 0, 1) := dk_3 (dk_at dksX3_seek_4 15 rfl rfl)
theorem dX3_seek_108 : decode cX3_seek 108 = .ok (.ireturn, 1) := dk_172 (dk_at dksX3_seek_4 16 rfl rfl)
abbrev cX3_has : ByteArray := prog_21_method_49_code
def yX3_has : MethodName := ⟨RX3, "has", "(II)Z"⟩
def dkwX3_has_1 : List UInt8 := [132, 3, 1, 167, 255, 232, 3, 172]
abbrev dktX3_has_1 : List UInt8 := dkwX3_has_1 ++ []
def dkwX3_has_0 : List UInt8 := [3, 62, 29, 42, 27, 182, 0, 139, 162, 0, 21, 42, 27, 29, 28, 182, 0, 209, 153, 0, 5, 4, 172]
abbrev dktX3_has_0 : List UInt8 := dkwX3_has_0 ++ dktX3_has_1
theorem dksX3_has_0 : cX3_has.data.toList.drop 0 = dktX3_has_0 := by decide +kernel
theorem dksX3_has_1 : cX3_has.data.toList.drop 23 = dktX3_has_1 := dk_seg dksX3_has_0 23 rfl rfl
theorem dX3_has_0 : decode cX3_has 0 = .ok (.iconst 0, 1) := dk_3 (dk_at dksX3_has_0 0 rfl rfl)
theorem dX3_has_1 : decode cX3_has 1 = .ok (.istore_n 3, 1) := dk_62 (dk_at dksX3_has_0 1 rfl rfl)
theorem dX3_has_2 : decode cX3_has 2 = .ok (.iload_n 3, 1) := dk_29 (dk_at dksX3_has_0 2 rfl rfl)
theorem dX3_has_3 : decode cX3_has 3 = .ok (.aload_n 0, 1) := dk_42 (dk_at dksX3_has_0 3 rfl rfl)
theorem dX3_has_4 : decode cX3_has 4 = .ok (.iload_n 1, 1) := dk_27 (dk_at dksX3_has_0 4 rfl rfl)
theorem dX3_has_5 : decode cX3_has 5 = .ok (.invokevirtual 139, 3) := dk_182 0 139 (dk_at dksX3_has_0 5 rfl rfl)
theorem dX3_has_8 : decode cX3_has 8 = .ok (.if_icmp .ge 21, 3) := dk_162 0 21 (dk_at dksX3_has_0 8 rfl rfl)
theorem dX3_has_11 : decode cX3_has 11 = .ok (.aload_n 0, 1) := dk_42 (dk_at dksX3_has_0 11 rfl rfl)
theorem dX3_has_12 : decode cX3_has 12 = .ok (.iload_n 1, 1) := dk_27 (dk_at dksX3_has_0 12 rfl rfl)
theorem dX3_has_13 : decode cX3_has 13 = .ok (.iload_n 3, 1) := dk_29 (dk_at dksX3_has_0 13 rfl rfl)
theorem dX3_has_14 : decode cX3_has 14 = .ok (.iload_n 2, 1) := dk_28 (dk_at dksX3_has_0 14 rfl rfl)
theorem dX3_has_15 : decode cX3_has 15 = .ok (.invokevirtual 209, 3) := dk_182 0 209 (dk_at dksX3_has_0 15 rfl rfl)
theorem dX3_has_18 : decode cX3_has 18 = .ok (.ifCond .eq 5, 3) := dk_153 0 5 (dk_at dksX3_has_0 18 rfl rfl)
theorem dX3_has_21 : decode cX3_has 21 = .ok (.iconst 1, 1) := dk_4 (dk_at dksX3_has_0 21 rfl rfl)
theorem dX3_has_22 : decode cX3_has 22 = .ok (.ireturn, 1) := dk_172 (dk_at dksX3_has_0 22 rfl rfl)
theorem dX3_has_23 : decode cX3_has 23 = .ok (.iinc 3 1, 3) := dk_132 3 1 (dk_at dksX3_has_1 0 rfl rfl)
theorem dX3_has_26 : decode cX3_has 26 = .ok (.goto (-24), 3) := dk_167 255 232 (dk_at dksX3_has_1 3 rfl rfl)
theorem dX3_has_29 : decode cX3_has 29 = .ok (.iconst 0, 1) := dk_3 (dk_at dksX3_has_1 6 rfl rfl)
theorem dX3_has_30 : decode cX3_has 30 = .ok (.ireturn, 1) := dk_172 (dk_at dksX3_has_1 7 rfl rfl)
abbrev cX3_hasAt : ByteArray := prog_21_method_48_code
def yX3_hasAt : MethodName := ⟨RX3, "hasAt", "(III)Z"⟩
def dkwX3_hasAt_2 : List UInt8 := [167, 255, 226, 4, 172]
abbrev dktX3_hasAt_2 : List UInt8 := dkwX3_hasAt_2 ++ []
def dkwX3_hasAt_1 : List UInt8 := [28, 21, 4, 96, 182, 0, 133, 42, 180, 0, 30, 21, 4, 51, 159, 0, 5, 3, 172, 132, 4, 1]
abbrev dktX3_hasAt_1 : List UInt8 := dkwX3_hasAt_1 ++ dktX3_hasAt_2
def dkwX3_hasAt_0 : List UInt8 := [28, 29, 96, 42, 27, 182, 0, 139, 164, 0, 5, 3, 172, 3, 54, 4, 21, 4, 29, 162, 0, 30, 42, 27]
abbrev dktX3_hasAt_0 : List UInt8 := dkwX3_hasAt_0 ++ dktX3_hasAt_1
theorem dksX3_hasAt_0 : cX3_hasAt.data.toList.drop 0 = dktX3_hasAt_0 := by decide +kernel
theorem dksX3_hasAt_1 : cX3_hasAt.data.toList.drop 24 = dktX3_hasAt_1 := dk_seg dksX3_hasAt_0 24 rfl rfl
theorem dksX3_hasAt_2 : cX3_hasAt.data.toList.drop 46 = dktX3_hasAt_2 := dk_seg dksX3_hasAt_1 22 rfl rfl
theorem dX3_hasAt_0 : decode cX3_hasAt 0 = .ok (.iload_n 2, 1) := dk_28 (dk_at dksX3_hasAt_0 0 rfl rfl)
theorem dX3_hasAt_1 : decode cX3_hasAt 1 = .ok (.iload_n 3, 1) := dk_29 (dk_at dksX3_hasAt_0 1 rfl rfl)
theorem dX3_hasAt_2 : decode cX3_hasAt 2 = .ok (.iadd, 1) := dk_96 (dk_at dksX3_hasAt_0 2 rfl rfl)
theorem dX3_hasAt_3 : decode cX3_hasAt 3 = .ok (.aload_n 0, 1) := dk_42 (dk_at dksX3_hasAt_0 3 rfl rfl)
theorem dX3_hasAt_4 : decode cX3_hasAt 4 = .ok (.iload_n 1, 1) := dk_27 (dk_at dksX3_hasAt_0 4 rfl rfl)
theorem dX3_hasAt_5 : decode cX3_hasAt 5 = .ok (.invokevirtual 139, 3) := dk_182 0 139 (dk_at dksX3_hasAt_0 5 rfl rfl)
theorem dX3_hasAt_8 : decode cX3_hasAt 8 = .ok (.if_icmp .le 5, 3) := dk_164 0 5 (dk_at dksX3_hasAt_0 8 rfl rfl)
theorem dX3_hasAt_11 : decode cX3_hasAt 11 = .ok (.iconst 0, 1) := dk_3 (dk_at dksX3_hasAt_0 11 rfl rfl)
theorem dX3_hasAt_12 : decode cX3_hasAt 12 = .ok (.ireturn, 1) := dk_172 (dk_at dksX3_hasAt_0 12 rfl rfl)
theorem dX3_hasAt_13 : decode cX3_hasAt 13 = .ok (.iconst 0, 1) := dk_3 (dk_at dksX3_hasAt_0 13 rfl rfl)
theorem dX3_hasAt_14 : decode cX3_hasAt 14 = .ok (.istore 4, 2) := dk_54 4 (dk_at dksX3_hasAt_0 14 rfl rfl)
theorem dX3_hasAt_16 : decode cX3_hasAt 16 = .ok (.iload 4, 2) := dk_21 4 (dk_at dksX3_hasAt_0 16 rfl rfl)
theorem dX3_hasAt_18 : decode cX3_hasAt 18 = .ok (.iload_n 3, 1) := dk_29 (dk_at dksX3_hasAt_0 18 rfl rfl)
theorem dX3_hasAt_19 : decode cX3_hasAt 19 = .ok (.if_icmp .ge 30, 3) := dk_162 0 30 (dk_at dksX3_hasAt_0 19 rfl rfl)
theorem dX3_hasAt_22 : decode cX3_hasAt 22 = .ok (.aload_n 0, 1) := dk_42 (dk_at dksX3_hasAt_0 22 rfl rfl)
theorem dX3_hasAt_23 : decode cX3_hasAt 23 = .ok (.iload_n 1, 1) := dk_27 (dk_at dksX3_hasAt_0 23 rfl rfl)
theorem dX3_hasAt_24 : decode cX3_hasAt 24 = .ok (.iload_n 2, 1) := dk_28 (dk_at dksX3_hasAt_1 0 rfl rfl)
theorem dX3_hasAt_25 : decode cX3_hasAt 25 = .ok (.iload 4, 2) := dk_21 4 (dk_at dksX3_hasAt_1 1 rfl rfl)
theorem dX3_hasAt_27 : decode cX3_hasAt 27 = .ok (.iadd, 1) := dk_96 (dk_at dksX3_hasAt_1 3 rfl rfl)
theorem dX3_hasAt_28 : decode cX3_hasAt 28 = .ok (.invokevirtual 133, 3) := dk_182 0 133 (dk_at dksX3_hasAt_1 4 rfl rfl)
theorem dX3_hasAt_31 : decode cX3_hasAt 31 = .ok (.aload_n 0, 1) := dk_42 (dk_at dksX3_hasAt_1 7 rfl rfl)
theorem dX3_hasAt_32 : decode cX3_hasAt 32 = .ok (.getfield 30, 3) := dk_180 0 30 (dk_at dksX3_hasAt_1 8 rfl rfl)
theorem dX3_hasAt_35 : decode cX3_hasAt 35 = .ok (.iload 4, 2) := dk_21 4 (dk_at dksX3_hasAt_1 11 rfl rfl)
theorem dX3_hasAt_37 : decode cX3_hasAt 37 = .ok (.baload, 1) := dk_51 (dk_at dksX3_hasAt_1 13 rfl rfl)
theorem dX3_hasAt_38 : decode cX3_hasAt 38 = .ok (.if_icmp .eq 5, 3) := dk_159 0 5 (dk_at dksX3_hasAt_1 14 rfl rfl)
theorem dX3_hasAt_41 : decode cX3_hasAt 41 = .ok (.iconst 0, 1) := dk_3 (dk_at dksX3_hasAt_1 17 rfl rfl)
theorem dX3_hasAt_42 : decode cX3_hasAt 42 = .ok (.ireturn, 1) := dk_172 (dk_at dksX3_hasAt_1 18 rfl rfl)
theorem dX3_hasAt_43 : decode cX3_hasAt 43 = .ok (.iinc 4 1, 3) := dk_132 4 1 (dk_at dksX3_hasAt_1 19 rfl rfl)
theorem dX3_hasAt_46 : decode cX3_hasAt 46 = .ok (.goto (-30), 3) := dk_167 255 226 (dk_at dksX3_hasAt_2 0 rfl rfl)
theorem dX3_hasAt_49 : decode cX3_hasAt 49 = .ok (.iconst 1, 1) := dk_4 (dk_at dksX3_hasAt_2 3 rfl rfl)
theorem dX3_hasAt_50 : decode cX3_hasAt 50 = .ok (.ireturn, 1) := dk_172 (dk_at dksX3_hasAt_2 4 rfl rfl)
abbrev cX3_meanLength : ByteArray := prog_21_method_51_code
def yX3_meanLength : MethodName := ⟨RX3, "meanLength", "()D"⟩
def dkwX3_meanLength_2 : List UInt8 := [27, 135, 42, 180, 0, 13, 3, 46, 135, 111, 175]
abbrev dktX3_meanLength_2 : List UInt8 := dkwX3_meanLength_2 ++ []
def dkwX3_meanLength_1 : List UInt8 := [182, 0, 139, 96, 60, 132, 2, 1, 167, 255, 235, 42, 180, 0, 13, 3, 46, 154, 0, 7, 14, 167, 0, 13]
abbrev dktX3_meanLength_1 : List UInt8 := dkwX3_meanLength_1 ++ dktX3_meanLength_2
def dkwX3_meanLength_0 : List UInt8 := [42, 3, 181, 0, 1, 3, 60, 4, 61, 28, 42, 180, 0, 13, 3, 46, 163, 0, 17, 27, 42, 28]
abbrev dktX3_meanLength_0 : List UInt8 := dkwX3_meanLength_0 ++ dktX3_meanLength_1
theorem dksX3_meanLength_0 : cX3_meanLength.data.toList.drop 0 = dktX3_meanLength_0 := by decide +kernel
theorem dksX3_meanLength_1 : cX3_meanLength.data.toList.drop 22 = dktX3_meanLength_1 := dk_seg dksX3_meanLength_0 22 rfl rfl
theorem dksX3_meanLength_2 : cX3_meanLength.data.toList.drop 46 = dktX3_meanLength_2 := dk_seg dksX3_meanLength_1 24 rfl rfl
theorem dX3_meanLength_0 : decode cX3_meanLength 0 = .ok (.aload_n 0, 1) := dk_42 (dk_at dksX3_meanLength_0 0 rfl rfl)
theorem dX3_meanLength_1 : decode cX3_meanLength 1 = .ok (.iconst 0, 1) := dk_3 (dk_at dksX3_meanLength_0 1 rfl rfl)
theorem dX3_meanLength_2 : decode cX3_meanLength 2 = .ok (.putfield 1, 3) := dk_181 0 1 (dk_at dksX3_meanLength_0 2 rfl rfl)
theorem dX3_meanLength_5 : decode cX3_meanLength 5 = .ok (.iconst 0, 1) := dk_3 (dk_at dksX3_meanLength_0 5 rfl rfl)
theorem dX3_meanLength_6 : decode cX3_meanLength 6 = .ok (.istore_n 1, 1) := dk_60 (dk_at dksX3_meanLength_0 6 rfl rfl)
theorem dX3_meanLength_7 : decode cX3_meanLength 7 = .ok (.iconst 1, 1) := dk_4 (dk_at dksX3_meanLength_0 7 rfl rfl)
theorem dX3_meanLength_8 : decode cX3_meanLength 8 = .ok (.istore_n 2, 1) := dk_61 (dk_at dksX3_meanLength_0 8 rfl rfl)
theorem dX3_meanLength_9 : decode cX3_meanLength 9 = .ok (.iload_n 2, 1) := dk_28 (dk_at dksX3_meanLength_0 9 rfl rfl)
theorem dX3_meanLength_10 : decode cX3_meanLength 10 = .ok (.aload_n 0, 1) := dk_42 (dk_at dksX3_meanLength_0 10 rfl rfl)
theorem dX3_meanLength_11 : decode cX3_meanLength 11 = .ok (.getfield 13, 3) := dk_180 0 13 (dk_at dksX3_meanLength_0 11 rfl rfl)
theorem dX3_meanLength_14 : decode cX3_meanLength 14 = .ok (.iconst 0, 1) := dk_3 (dk_at dksX3_meanLength_0 14 rfl rfl)
theorem dX3_meanLength_15 : decode cX3_meanLength 15 = .ok (.iaload, 1) := dk_46 (dk_at dksX3_meanLength_0 15 rfl rfl)
theorem dX3_meanLength_16 : decode cX3_meanLength 16 = .ok (.if_icmp .gt 17, 3) := dk_163 0 17 (dk_at dksX3_meanLength_0 16 rfl rfl)
theorem dX3_meanLength_19 : decode cX3_meanLength 19 = .ok (.iload_n 1, 1) := dk_27 (dk_at dksX3_meanLength_0 19 rfl rfl)
theorem dX3_meanLength_20 : decode cX3_meanLength 20 = .ok (.aload_n 0, 1) := dk_42 (dk_at dksX3_meanLength_0 20 rfl rfl)
theorem dX3_meanLength_21 : decode cX3_meanLength 21 = .ok (.iload_n 2, 1) := dk_28 (dk_at dksX3_meanLength_0 21 rfl rfl)
theorem dX3_meanLength_22 : decode cX3_meanLength 22 = .ok (.invokevirtual 139, 3) := dk_182 0 139 (dk_at dksX3_meanLength_1 0 rfl rfl)
theorem dX3_meanLength_25 : decode cX3_meanLength 25 = .ok (.iadd, 1) := dk_96 (dk_at dksX3_meanLength_1 3 rfl rfl)
theorem dX3_meanLength_26 : decode cX3_meanLength 26 = .ok (.istore_n 1, 1) := dk_60 (dk_at dksX3_meanLength_1 4 rfl rfl)
theorem dX3_meanLength_27 : decode cX3_meanLength 27 = .ok (.iinc 2 1, 3) := dk_132 2 1 (dk_at dksX3_meanLength_1 5 rfl rfl)
theorem dX3_meanLength_30 : decode cX3_meanLength 30 = .ok (.goto (-21), 3) := dk_167 255 235 (dk_at dksX3_meanLength_1 8 rfl rfl)
theorem dX3_meanLength_33 : decode cX3_meanLength 33 = .ok (.aload_n 0, 1) := dk_42 (dk_at dksX3_meanLength_1 11 rfl rfl)
theorem dX3_meanLength_34 : decode cX3_meanLength 34 = .ok (.getfield 13, 3) := dk_180 0 13 (dk_at dksX3_meanLength_1 12 rfl rfl)
theorem dX3_meanLength_37 : decode cX3_meanLength 37 = .ok (.iconst 0, 1) := dk_3 (dk_at dksX3_meanLength_1 15 rfl rfl)
theorem dX3_meanLength_38 : decode cX3_meanLength 38 = .ok (.iaload, 1) := dk_46 (dk_at dksX3_meanLength_1 16 rfl rfl)
theorem dX3_meanLength_39 : decode cX3_meanLength 39 = .ok (.ifCond .ne 7, 3) := dk_154 0 7 (dk_at dksX3_meanLength_1 17 rfl rfl)
theorem dX3_meanLength_42 : decode cX3_meanLength 42 = .ok (.dconst 0, 1) := dk_14 (dk_at dksX3_meanLength_1 20 rfl rfl)
theorem dX3_meanLength_43 : decode cX3_meanLength 43 = .ok (.goto 13, 3) := dk_167 0 13 (dk_at dksX3_meanLength_1 21 rfl rfl)
theorem dX3_meanLength_46 : decode cX3_meanLength 46 = .ok (.iload_n 1, 1) := dk_27 (dk_at dksX3_meanLength_2 0 rfl rfl)
theorem dX3_meanLength_47 : decode cX3_meanLength 47 = .ok (.i2d, 1) := dk_135 (dk_at dksX3_meanLength_2 1 rfl rfl)
theorem dX3_meanLength_48 : decode cX3_meanLength 48 = .ok (.aload_n 0, 1) := dk_42 (dk_at dksX3_meanLength_2 2 rfl rfl)
theorem dX3_meanLength_49 : decode cX3_meanLength 49 = .ok (.getfield 13, 3) := dk_180 0 13 (dk_at dksX3_meanLength_2 3 rfl rfl)
theorem dX3_meanLength_52 : decode cX3_meanLength 52 = .ok (.iconst 0, 1) := dk_3 (dk_at dksX3_meanLength_2 6 rfl rfl)
theorem dX3_meanLength_53 : decode cX3_meanLength 53 = .ok (.iaload, 1) := dk_46 (dk_at dksX3_meanLength_2 7 rfl rfl)
theorem dX3_meanLength_54 : decode cX3_meanLength 54 = .ok (.i2d, 1) := dk_135 (dk_at dksX3_meanLength_2 8 rfl rfl)
theorem dX3_meanLength_55 : decode cX3_meanLength 55 = .ok (.ddiv, 1) := dk_111 (dk_at dksX3_meanLength_2 9 rfl rfl)
theorem dX3_meanLength_56 : decode cX3_meanLength 56 = .ok (.dreturn, 1) := dk_175 (dk_at dksX3_meanLength_2 10 rfl rfl)
abbrev cX3_shownShare : ByteArray := prog_21_method_52_code
def yX3_shownShare : MethodName := ⟨RX3, "shownShare", "()F"⟩
def dkwX3_shownShare_1 : List UInt8 := [182, 0, 195, 134, 42, 180, 0, 13, 3, 46, 134, 110, 174]
abbrev dktX3_shownShare_1 : List UInt8 := dkwX3_shownShare_1 ++ []
def dkwX3_shownShare_0 : List UInt8 := [42, 3, 181, 0, 1, 42, 182, 0, 174, 42, 180, 0, 13, 3, 46, 154, 0, 7, 11, 167, 0, 16, 42]
abbrev dktX3_shownShare_0 : List UInt8 := dkwX3_shownShare_0 ++ dktX3_shownShare_1
theorem dksX3_shownShare_0 : cX3_shownShare.data.toList.drop 0 = dktX3_shownShare_0 := by decide +kernel
theorem dksX3_shownShare_1 : cX3_shownShare.data.toList.drop 23 = dktX3_shownShare_1 := dk_seg dksX3_shownShare_0 23 rfl rfl
theorem dX3_shownShare_0 : decode cX3_shownShare 0 = .ok (.aload_n 0, 1) := dk_42 (dk_at dksX3_shownShare_0 0 rfl rfl)
theorem dX3_shownShare_1 : decode cX3_shownShare 1 = .ok (.iconst 0, 1) := dk_3 (dk_at dksX3_shownShare_0 1 rfl rfl)
theorem dX3_shownShare_2 : decode cX3_shownShare 2 = .ok (.putfield 1, 3) := dk_181 0 1 (dk_at dksX3_shownShare_0 2 rfl rfl)
theorem dX3_shownShare_5 : decode cX3_shownShare 5 = .ok (.aload_n 0, 1) := dk_42 (dk_at dksX3_shownShare_0 5 rfl rfl)
theorem dX3_shownShare_6 : decode cX3_shownShare 6 = .ok (.invokevirtual 174, 3) := dk_182 0 174 (dk_at dksX3_shownShare_0 6 rfl rfl)
theorem dX3_shownShare_9 : decode cX3_shownShare 9 = .ok (.aload_n 0, 1) := dk_42 (dk_at dksX3_shownShare_0 9 rfl rfl)
theorem dX3_shownShare_10 : decode cX3_shownShare 10 = .ok (.getfield 13, 3) := dk_180 0 13 (dk_at dksX3_shownShare_0 10 rfl rfl)
theorem dX3_shownShare_13 : decode cX3_shownShare 13 = .ok (.iconst 0, 1) := dk_3 (dk_at dksX3_shownShare_0 13 rfl rfl)
theorem dX3_shownShare_14 : decode cX3_shownShare 14 = .ok (.iaload, 1) := dk_46 (dk_at dksX3_shownShare_0 14 rfl rfl)
theorem dX3_shownShare_15 : decode cX3_shownShare 15 = .ok (.ifCond .ne 7, 3) := dk_154 0 7 (dk_at dksX3_shownShare_0 15 rfl rfl)
theorem dX3_shownShare_18 : decode cX3_shownShare 18 = .ok (.fconst 0, 1) := dk_11 (dk_at dksX3_shownShare_0 18 rfl rfl)
theorem dX3_shownShare_19 : decode cX3_shownShare 19 = .ok (.goto 16, 3) := dk_167 0 16 (dk_at dksX3_shownShare_0 19 rfl rfl)
theorem dX3_shownShare_22 : decode cX3_shownShare 22 = .ok (.aload_n 0, 1) := dk_42 (dk_at dksX3_shownShare_0 22 rfl rfl)
theorem dX3_shownShare_23 : decode cX3_shownShare 23 = .ok (.invokevirtual 195, 3) := dk_182 0 195 (dk_at dksX3_shownShare_1 0 rfl rfl)
theorem dX3_shownShare_26 : decode cX3_shownShare 26 = .ok (.i2f, 1) := dk_134 (dk_at dksX3_shownShare_1 3 rfl rfl)
theorem dX3_shownShare_27 : decode cX3_shownShare 27 = .ok (.aload_n 0, 1) := dk_42 (dk_at dksX3_shownShare_1 4 rfl rfl)
theorem dX3_shownShare_28 : decode cX3_shownShare 28 = .ok (.getfield 13, 3) := dk_180 0 13 (dk_at dksX3_shownShare_1 5 rfl rfl)
theorem dX3_shownShare_31 : decode cX3_shownShare 31 = .ok (.iconst 0, 1) := dk_3 (dk_at dksX3_shownShare_1 8 rfl rfl)
theorem dX3_shownShare_32 : decode cX3_shownShare 32 = .ok (.iaload, 1) := dk_46 (dk_at dksX3_shownShare_1 9 rfl rfl)
theorem dX3_shownShare_33 : decode cX3_shownShare 33 = .ok (.i2f, 1) := dk_134 (dk_at dksX3_shownShare_1 10 rfl rfl)
theorem dX3_shownShare_34 : decode cX3_shownShare 34 = .ok (.fdiv, 1) := dk_110 (dk_at dksX3_shownShare_1 11 rfl rfl)
theorem dX3_shownShare_35 : decode cX3_shownShare 35 = .ok (.freturn, 1) := dk_174 (dk_at dksX3_shownShare_1 12 rfl rfl)
abbrev cX3_count : ByteArray := prog_21_method_57_code
def yX3_count : MethodName := ⟨RX3, "count", "(I)I"⟩
def dkwX3_count_4 : List UInt8 := [46, 172, 42, 180, 0, 13, 7, 46, 172, 42, 180, 0, 13, 4, 46, 172]
abbrev dktX3_count_4 : List UInt8 := dkwX3_count_4 ++ []
def dkwX3_count_3 : List UInt8 := [182, 0, 227, 172, 42, 182, 0, 230, 172, 42, 182, 0, 233, 172, 42, 180, 0, 136, 172, 42, 180, 0, 13, 6]
abbrev dktX3_count_3 : List UInt8 := dkwX3_count_3 ++ dktX3_count_4
def dkwX3_count_2 : List UInt8 := [42, 180, 0, 13, 3, 46, 172, 42, 182, 0, 195, 172, 42, 180, 0, 145, 172, 42, 182, 0, 224, 172, 42]
abbrev dktX3_count_2 : List UInt8 := dkwX3_count_2 ++ dktX3_count_3
def dkwX3_count_1 : List UInt8 := [170, 0, 0, 0, 0, 0, 111, 0, 0, 0, 0, 0, 0, 0, 9, 0, 0, 0, 55, 0, 0, 0, 62, 0, 0, 0, 67, 0, 0, 0, 72, 0, 0, 0, 77, 0, 0, 0, 82, 0, 0, 0, 87, 0, 0, 0, 92, 0, 0, 0, 97, 0, 0, 0, 104]
abbrev dktX3_count_1 : List UInt8 := dkwX3_count_1 ++ dktX3_count_2
def dkwX3_count_0 : List UInt8 := [42, 27, 3, 16, 10, 184, 0, 95, 182, 0, 111, 154, 0, 5, 3, 172, 42, 182, 0, 174, 27]
abbrev dktX3_count_0 : List UInt8 := dkwX3_count_0 ++ dktX3_count_1
theorem dksX3_count_0 : cX3_count.data.toList.drop 0 = dktX3_count_0 := by decide +kernel
theorem dksX3_count_1 : cX3_count.data.toList.drop 21 = dktX3_count_1 := dk_seg dksX3_count_0 21 rfl rfl
theorem dksX3_count_2 : cX3_count.data.toList.drop 76 = dktX3_count_2 := dk_seg dksX3_count_1 55 rfl rfl
theorem dksX3_count_3 : cX3_count.data.toList.drop 99 = dktX3_count_3 := dk_seg dksX3_count_2 23 rfl rfl
theorem dksX3_count_4 : cX3_count.data.toList.drop 123 = dktX3_count_4 := dk_seg dksX3_count_3 24 rfl rfl
theorem dX3_count_0 : decode cX3_count 0 = .ok (.aload_n 0, 1) := dk_42 (dk_at dksX3_count_0 0 rfl rfl)
theorem dX3_count_1 : decode cX3_count 1 = .ok (.iload_n 1, 1) := dk_27 (dk_at dksX3_count_0 1 rfl rfl)
theorem dX3_count_2 : decode cX3_count 2 = .ok (.iconst 0, 1) := dk_3 (dk_at dksX3_count_0 2 rfl rfl)
theorem dX3_count_3 : decode cX3_count 3 = .ok (.bipush 10, 2) := dk_16 10 (dk_at dksX3_count_0 3 rfl rfl)
theorem dX3_count_5 : decode cX3_count 5 = .ok (.invokestatic 95, 3) := dk_184 0 95 (dk_at dksX3_count_0 5 rfl rfl)
theorem dX3_count_8 : decode cX3_count 8 = .ok (.invokevirtual 111, 3) := dk_182 0 111 (dk_at dksX3_count_0 8 rfl rfl)
theorem dX3_count_11 : decode cX3_count 11 = .ok (.ifCond .ne 5, 3) := dk_154 0 5 (dk_at dksX3_count_0 11 rfl rfl)
theorem dX3_count_14 : decode cX3_count 14 = .ok (.iconst 0, 1) := dk_3 (dk_at dksX3_count_0 14 rfl rfl)
theorem dX3_count_15 : decode cX3_count 15 = .ok (.ireturn, 1) := dk_172 (dk_at dksX3_count_0 15 rfl rfl)
theorem dX3_count_16 : decode cX3_count 16 = .ok (.aload_n 0, 1) := dk_42 (dk_at dksX3_count_0 16 rfl rfl)
theorem dX3_count_17 : decode cX3_count 17 = .ok (.invokevirtual 174, 3) := dk_182 0 174 (dk_at dksX3_count_0 17 rfl rfl)
theorem dX3_count_20 : decode cX3_count 20 = .ok (.iload_n 1, 1) := dk_27 (dk_at dksX3_count_0 20 rfl rfl)
theorem dX3_count_21 : decode cX3_count 21 = .ok (.tableswitch 111 0 9 #[55, 62, 67, 72, 77, 82, 87, 92, 97, 104], 55) := by decide +kernel
theorem dX3_count_76 : decode cX3_count 76 = .ok (.aload_n 0, 1) := dk_42 (dk_at dksX3_count_2 0 rfl rfl)
theorem dX3_count_77 : decode cX3_count 77 = .ok (.getfield 13, 3) := dk_180 0 13 (dk_at dksX3_count_2 1 rfl rfl)
theorem dX3_count_80 : decode cX3_count 80 = .ok (.iconst 0, 1) := dk_3 (dk_at dksX3_count_2 4 rfl rfl)
theorem dX3_count_81 : decode cX3_count 81 = .ok (.iaload, 1) := dk_46 (dk_at dksX3_count_2 5 rfl rfl)
theorem dX3_count_82 : decode cX3_count 82 = .ok (.ireturn, 1) := dk_172 (dk_at dksX3_count_2 6 rfl rfl)
theorem dX3_count_83 : decode cX3_count 83 = .ok (.aload_n 0, 1) := dk_42 (dk_at dksX3_count_2 7 rfl rfl)
theorem dX3_count_84 : decode cX3_count 84 = .ok (.invokevirtual 195, 3) := dk_182 0 195 (dk_at dksX3_count_2 8 rfl rfl)
theorem dX3_count_87 : decode cX3_count 87 = .ok (.ireturn, 1) := dk_172 (dk_at dksX3_count_2 11 rfl rfl)
theorem dX3_count_88 : decode cX3_count 88 = .ok (.aload_n 0, 1) := dk_42 (dk_at dksX3_count_2 12 rfl rfl)
theorem dX3_count_89 : decode cX3_count 89 = .ok (.getfield 145, 3) := dk_180 0 145 (dk_at dksX3_count_2 13 rfl rfl)
theorem dX3_count_92 : decode cX3_count 92 = .ok (.ireturn, 1) := dk_172 (dk_at dksX3_count_2 16 rfl rfl)
theorem dX3_count_93 : decode cX3_count 93 = .ok (.aload_n 0, 1) := dk_42 (dk_at dksX3_count_2 17 rfl rfl)
theorem dX3_count_94 : decode cX3_count 94 = .ok (.invokevirtual 224, 3) := dk_182 0 224 (dk_at dksX3_count_2 18 rfl rfl)
theorem dX3_count_97 : decode cX3_count 97 = .ok (.ireturn, 1) := dk_172 (dk_at dksX3_count_2 21 rfl rfl)
theorem dX3_count_98 : decode cX3_count 98 = .ok (.aload_n 0, 1) := dk_42 (dk_at dksX3_count_2 22 rfl rfl)
theorem dX3_count_99 : decode cX3_count 99 = .ok (.invokevirtual 227, 3) := dk_182 0 227 (dk_at dksX3_count_3 0 rfl rfl)
theorem dX3_count_102 : decode cX3_count 102 = .ok (.ireturn, 1) := dk_172 (dk_at dksX3_count_3 3 rfl rfl)
theorem dX3_count_103 : decode cX3_count 103 = .ok (.aload_n 0, 1) := dk_42 (dk_at dksX3_count_3 4 rfl rfl)
theorem dX3_count_104 : decode cX3_count 104 = .ok (.invokevirtual 230, 3) := dk_182 0 230 (dk_at dksX3_count_3 5 rfl rfl)
theorem dX3_count_107 : decode cX3_count 107 = .ok (.ireturn, 1) := dk_172 (dk_at dksX3_count_3 8 rfl rfl)
theorem dX3_count_108 : decode cX3_count 108 = .ok (.aload_n 0, 1) := dk_42 (dk_at dksX3_count_3 9 rfl rfl)
theorem dX3_count_109 : decode cX3_count 109 = .ok (.invokevirtual 233, 3) := dk_182 0 233 (dk_at dksX3_count_3 10 rfl rfl)
theorem dX3_count_112 : decode cX3_count 112 = .ok (.ireturn, 1) := dk_172 (dk_at dksX3_count_3 13 rfl rfl)
theorem dX3_count_113 : decode cX3_count 113 = .ok (.aload_n 0, 1) := dk_42 (dk_at dksX3_count_3 14 rfl rfl)
theorem dX3_count_114 : decode cX3_count 114 = .ok (.getfield 136, 3) := dk_180 0 136 (dk_at dksX3_count_3 15 rfl rfl)
theorem dX3_count_117 : decode cX3_count 117 = .ok (.ireturn, 1) := dk_172 (dk_at dksX3_count_3 18 rfl rfl)
theorem dX3_count_118 : decode cX3_count 118 = .ok (.aload_n 0, 1) := dk_42 (dk_at dksX3_count_3 19 rfl rfl)
theorem dX3_count_119 : decode cX3_count 119 = .ok (.getfield 13, 3) := dk_180 0 13 (dk_at dksX3_count_3 20 rfl rfl)
theorem dX3_count_122 : decode cX3_count 122 = .ok (.iconst 3, 1) := dk_6 (dk_at dksX3_count_3 23 rfl rfl)
theorem dX3_count_123 : decode cX3_count 123 = .ok (.iaload, 1) := dk_46 (dk_at dksX3_count_4 0 rfl rfl)
theorem dX3_count_124 : decode cX3_count 124 = .ok (.ireturn, 1) := dk_172 (dk_at dksX3_count_4 1 rfl rfl)
theorem dX3_count_125 : decode cX3_count 125 = .ok (.aload_n 0, 1) := dk_42 (dk_at dksX3_count_4 2 rfl rfl)
theorem dX3_count_126 : decode cX3_count 126 = .ok (.getfield 13, 3) := dk_180 0 13 (dk_at dksX3_count_4 3 rfl rfl)
theorem dX3_count_129 : decode cX3_count 129 = .ok (.iconst 4, 1) := dk_7 (dk_at dksX3_count_4 6 rfl rfl)
theorem dX3_count_130 : decode cX3_count 130 = .ok (.iaload, 1) := dk_46 (dk_at dksX3_count_4 7 rfl rfl)
theorem dX3_count_131 : decode cX3_count 131 = .ok (.ireturn, 1) := dk_172 (dk_at dksX3_count_4 8 rfl rfl)
theorem dX3_count_132 : decode cX3_count 132 = .ok (.aload_n 0, 1) := dk_42 (dk_at dksX3_count_4 9 rfl rfl)
theorem dX3_count_133 : decode cX3_count 133 = .ok (.getfield 13, 3) := dk_180 0 13 (dk_at dksX3_count_4 10 rfl rfl)
theorem dX3_count_136 : decode cX3_count 136 = .ok (.iconst 1, 1) := dk_4 (dk_at dksX3_count_4 13 rfl rfl)
theorem dX3_count_137 : decode cX3_count 137 = .ok (.iaload, 1) := dk_46 (dk_at dksX3_count_4 14 rfl rfl)
theorem dX3_count_138 : decode cX3_count 138 = .ok (.ireturn, 1) := dk_172 (dk_at dksX3_count_4 15 rfl rfl)
abbrev cX3_foldedMany : ByteArray := prog_21_method_53_code
def yX3_foldedMany : MethodName := ⟨RX3, "foldedMany", "()I"⟩
def dkwX3_foldedMany_1 : List UInt8 := [167, 0, 4, 3, 96, 60, 132, 2, 1, 167, 255, 229, 27, 172]
abbrev dktX3_foldedMany_1 : List UInt8 := dkwX3_foldedMany_1 ++ []
def dkwX3_foldedMany_0 : List UInt8 := [3, 60, 3, 61, 28, 42, 180, 0, 145, 162, 0, 25, 27, 42, 28, 182, 0, 215, 153, 0, 7, 4]
abbrev dktX3_foldedMany_0 : List UInt8 := dkwX3_foldedMany_0 ++ dktX3_foldedMany_1
theorem dksX3_foldedMany_0 : cX3_foldedMany.data.toList.drop 0 = dktX3_foldedMany_0 := by decide +kernel
theorem dksX3_foldedMany_1 : cX3_foldedMany.data.toList.drop 22 = dktX3_foldedMany_1 := dk_seg dksX3_foldedMany_0 22 rfl rfl
theorem dX3_foldedMany_0 : decode cX3_foldedMany 0 = .ok (.iconst 0, 1) := dk_3 (dk_at dksX3_foldedMany_0 0 rfl rfl)
theorem dX3_foldedMany_1 : decode cX3_foldedMany 1 = .ok (.istore_n 1, 1) := dk_60 (dk_at dksX3_foldedMany_0 1 rfl rfl)
theorem dX3_foldedMany_2 : decode cX3_foldedMany 2 = .ok (.iconst 0, 1) := dk_3 (dk_at dksX3_foldedMany_0 2 rfl rfl)
theorem dX3_foldedMany_3 : decode cX3_foldedMany 3 = .ok (.istore_n 2, 1) := dk_61 (dk_at dksX3_foldedMany_0 3 rfl rfl)
theorem dX3_foldedMany_4 : decode cX3_foldedMany 4 = .ok (.iload_n 2, 1) := dk_28 (dk_at dksX3_foldedMany_0 4 rfl rfl)
theorem dX3_foldedMany_5 : decode cX3_foldedMany 5 = .ok (.aload_n 0, 1) := dk_42 (dk_at dksX3_foldedMany_0 5 rfl rfl)
theorem dX3_foldedMany_6 : decode cX3_foldedMany 6 = .ok (.getfield 145, 3) := dk_180 0 145 (dk_at dksX3_foldedMany_0 6 rfl rfl)
theorem dX3_foldedMany_9 : decode cX3_foldedMany 9 = .ok (.if_icmp .ge 25, 3) := dk_162 0 25 (dk_at dksX3_foldedMany_0 9 rfl rfl)
theorem dX3_foldedMany_12 : decode cX3_foldedMany 12 = .ok (.iload_n 1, 1) := dk_27 (dk_at dksX3_foldedMany_0 12 rfl rfl)
theorem dX3_foldedMany_13 : decode cX3_foldedMany 13 = .ok (.aload_n 0, 1) := dk_42 (dk_at dksX3_foldedMany_0 13 rfl rfl)
theorem dX3_foldedMany_14 : decode cX3_foldedMany 14 = .ok (.iload_n 2, 1) := dk_28 (dk_at dksX3_foldedMany_0 14 rfl rfl)
theorem dX3_foldedMany_15 : decode cX3_foldedMany 15 = .ok (.invokevirtual 215, 3) := dk_182 0 215 (dk_at dksX3_foldedMany_0 15 rfl rfl)
theorem dX3_foldedMany_18 : decode cX3_foldedMany 18 = .ok (.ifCond .eq 7, 3) := dk_153 0 7 (dk_at dksX3_foldedMany_0 18 rfl rfl)
theorem dX3_foldedMany_21 : decode cX3_foldedMany 21 = .ok (.iconst 1, 1) := dk_4 (dk_at dksX3_foldedMany_0 21 rfl rfl)
theorem dX3_foldedMany_22 : decode cX3_foldedMany 22 = .ok (.goto 4, 3) := dk_167 0 4 (dk_at dksX3_foldedMany_1 0 rfl rfl)
theorem dX3_foldedMany_25 : decode cX3_foldedMany 25 = .ok (.iconst 0, 1) := dk_3 (dk_at dksX3_foldedMany_1 3 rfl rfl)
theorem dX3_foldedMany_26 : decode cX3_foldedMany 26 = .ok (.iadd, 1) := dk_96 (dk_at dksX3_foldedMany_1 4 rfl rfl)
theorem dX3_foldedMany_27 : decode cX3_foldedMany 27 = .ok (.istore_n 1, 1) := dk_60 (dk_at dksX3_foldedMany_1 5 rfl rfl)
theorem dX3_foldedMany_28 : decode cX3_foldedMany 28 = .ok (.iinc 2 1, 3) := dk_132 2 1 (dk_at dksX3_foldedMany_1 6 rfl rfl)
theorem dX3_foldedMany_31 : decode cX3_foldedMany 31 = .ok (.goto (-27), 3) := dk_167 255 229 (dk_at dksX3_foldedMany_1 9 rfl rfl)
theorem dX3_foldedMany_34 : decode cX3_foldedMany 34 = .ok (.iload_n 1, 1) := dk_27 (dk_at dksX3_foldedMany_1 12 rfl rfl)
theorem dX3_foldedMany_35 : decode cX3_foldedMany 35 = .ok (.ireturn, 1) := dk_172 (dk_at dksX3_foldedMany_1 13 rfl rfl)
abbrev cX3_isFolded : ByteArray := prog_21_method_32_code
def yX3_isFolded : MethodName := ⟨RX3, "isFolded", "(I)Z"⟩
def dkwX3_isFolded_0 : List UInt8 := [42, 42, 180, 0, 46, 27, 46, 4, 182, 0, 129, 4, 160, 0, 7, 4, 167, 0, 4, 3, 172]
abbrev dktX3_isFolded_0 : List UInt8 := dkwX3_isFolded_0 ++ []
theorem dksX3_isFolded_0 : cX3_isFolded.data.toList.drop 0 = dktX3_isFolded_0 := by decide +kernel
theorem dX3_isFolded_0 : decode cX3_isFolded 0 = .ok (.aload_n 0, 1) := dk_42 (dk_at dksX3_isFolded_0 0 rfl rfl)
theorem dX3_isFolded_1 : decode cX3_isFolded 1 = .ok (.aload_n 0, 1) := dk_42 (dk_at dksX3_isFolded_0 1 rfl rfl)
theorem dX3_isFolded_2 : decode cX3_isFolded 2 = .ok (.getfield 46, 3) := dk_180 0 46 (dk_at dksX3_isFolded_0 2 rfl rfl)
theorem dX3_isFolded_5 : decode cX3_isFolded 5 = .ok (.iload_n 1, 1) := dk_27 (dk_at dksX3_isFolded_0 5 rfl rfl)
theorem dX3_isFolded_6 : decode cX3_isFolded 6 = .ok (.iaload, 1) := dk_46 (dk_at dksX3_isFolded_0 6 rfl rfl)
theorem dX3_isFolded_7 : decode cX3_isFolded 7 = .ok (.iconst 1, 1) := dk_4 (dk_at dksX3_isFolded_0 7 rfl rfl)
theorem dX3_isFolded_8 : decode cX3_isFolded 8 = .ok (.invokevirtual 129, 3) := dk_182 0 129 (dk_at dksX3_isFolded_0 8 rfl rfl)
theorem dX3_isFolded_11 : decode cX3_isFolded 11 = .ok (.iconst 1, 1) := dk_4 (dk_at dksX3_isFolded_0 11 rfl rfl)
theorem dX3_isFolded_12 : decode cX3_isFolded 12 = .ok (.if_icmp .ne 7, 3) := dk_160 0 7 (dk_at dksX3_isFolded_0 12 rfl rfl)
theorem dX3_isFolded_15 : decode cX3_isFolded 15 = .ok (.iconst 1, 1) := dk_4 (dk_at dksX3_isFolded_0 15 rfl rfl)
theorem dX3_isFolded_16 : decode cX3_isFolded 16 = .ok (.goto 4, 3) := dk_167 0 4 (dk_at dksX3_isFolded_0 16 rfl rfl)
theorem dX3_isFolded_19 : decode cX3_isFolded 19 = .ok (.iconst 0, 1) := dk_3 (dk_at dksX3_isFolded_0 19 rfl rfl)
theorem dX3_isFolded_20 : decode cX3_isFolded 20 = .ok (.ireturn, 1) := dk_172 (dk_at dksX3_isFolded_0 20 rfl rfl)
abbrev cX3_markersOnMany : ByteArray := prog_21_method_54_code
def yX3_markersOnMany : MethodName := ⟨RX3, "markersOnMany", "()I"⟩
def dkwX3_markersOnMany_1 : List UInt8 := [167, 0, 4, 4, 96, 60, 132, 2, 1, 167, 255, 227, 27, 172]
abbrev dktX3_markersOnMany_1 : List UInt8 := dkwX3_markersOnMany_1 ++ []
def dkwX3_markersOnMany_0 : List UInt8 := [3, 60, 3, 61, 28, 16, 10, 162, 0, 29, 27, 42, 180, 0, 13, 8, 28, 96, 46, 2, 160, 0, 7, 3]
abbrev dktX3_markersOnMany_0 : List UInt8 := dkwX3_markersOnMany_0 ++ dktX3_markersOnMany_1
theorem dksX3_markersOnMany_0 : cX3_markersOnMany.data.toList.drop 0 = dktX3_markersOnMany_0 := by decide +kernel
theorem dksX3_markersOnMany_1 : cX3_markersOnMany.data.toList.drop 24 = dktX3_markersOnMany_1 := dk_seg dksX3_markersOnMany_0 24 rfl rfl
theorem dX3_markersOnMany_0 : decode cX3_markersOnMany 0 = .ok (.iconst 0, 1) := dk_3 (dk_at dksX3_markersOnMany_0 0 rfl rfl)
theorem dX3_markersOnMany_1 : decode cX3_markersOnMany 1 = .ok (.istore_n 1, 1) := dk_60 (dk_at dksX3_markersOnMany_0 1 rfl rfl)
theorem dX3_markersOnMany_2 : decode cX3_markersOnMany 2 = .ok (.iconst 0, 1) := dk_3 (dk_at dksX3_markersOnMany_0 2 rfl rfl)
theorem dX3_markersOnMany_3 : decode cX3_markersOnMany 3 = .ok (.istore_n 2, 1) := dk_61 (dk_at dksX3_markersOnMany_0 3 rfl rfl)
theorem dX3_markersOnMany_4 : decode cX3_markersOnMany 4 = .ok (.iload_n 2, 1) := dk_28 (dk_at dksX3_markersOnMany_0 4 rfl rfl)
theorem dX3_markersOnMany_5 : decode cX3_markersOnMany 5 = .ok (.bipush 10, 2) := dk_16 10 (dk_at dksX3_markersOnMany_0 5 rfl rfl)
theorem dX3_markersOnMany_7 : decode cX3_markersOnMany 7 = .ok (.if_icmp .ge 29, 3) := dk_162 0 29 (dk_at dksX3_markersOnMany_0 7 rfl rfl)
theorem dX3_markersOnMany_10 : decode cX3_markersOnMany 10 = .ok (.iload_n 1, 1) := dk_27 (dk_at dksX3_markersOnMany_0 10 rfl rfl)
theorem dX3_markersOnMany_11 : decode cX3_markersOnMany 11 = .ok (.aload_n 0, 1) := dk_42 (dk_at dksX3_markersOnMany_0 11 rfl rfl)
theorem dX3_markersOnMany_12 : decode cX3_markersOnMany 12 = .ok (.getfield 13, 3) := dk_180 0 13 (dk_at dksX3_markersOnMany_0 12 rfl rfl)
theorem dX3_markersOnMany_15 : decode cX3_markersOnMany 15 = .ok (.iconst 5, 1) := dk_8 (dk_at dksX3_markersOnMany_0 15 rfl rfl)
theorem dX3_markersOnMany_16 : decode cX3_markersOnMany 16 = .ok (.iload_n 2, 1) := dk_28 (dk_at dksX3_markersOnMany_0 16 rfl rfl)
theorem dX3_markersOnMany_17 : decode cX3_markersOnMany 17 = .ok (.iadd, 1) := dk_96 (dk_at dksX3_markersOnMany_0 17 rfl rfl)
theorem dX3_markersOnMany_18 : decode cX3_markersOnMany 18 = .ok (.iaload, 1) := dk_46 (dk_at dksX3_markersOnMany_0 18 rfl rfl)
theorem dX3_markersOnMany_19 : decode cX3_markersOnMany 19 = .ok (.iconst (-1), 1) := dk_2 (dk_at dksX3_markersOnMany_0 19 rfl rfl)
theorem dX3_markersOnMany_20 : decode cX3_markersOnMany 20 = .ok (.if_icmp .ne 7, 3) := dk_160 0 7 (dk_at dksX3_markersOnMany_0 20 rfl rfl)
theorem dX3_markersOnMany_23 : decode cX3_markersOnMany 23 = .ok (.iconst 0, 1) := dk_3 (dk_at dksX3_markersOnMany_0 23 rfl rfl)
theorem dX3_markersOnMany_24 : decode cX3_markersOnMany 24 = .ok (.goto 4, 3) := dk_167 0 4 (dk_at dksX3_markersOnMany_1 0 rfl rfl)
theorem dX3_markersOnMany_27 : decode cX3_markersOnMany 27 = .ok (.iconst 1, 1) := dk_4 (dk_at dksX3_markersOnMany_1 3 rfl rfl)
theorem dX3_markersOnMany_28 : decode cX3_markersOnMany 28 = .ok (.iadd, 1) := dk_96 (dk_at dksX3_markersOnMany_1 4 rfl rfl)
theorem dX3_markersOnMany_29 : decode cX3_markersOnMany 29 = .ok (.istore_n 1, 1) := dk_60 (dk_at dksX3_markersOnMany_1 5 rfl rfl)
theorem dX3_markersOnMany_30 : decode cX3_markersOnMany 30 = .ok (.iinc 2 1, 3) := dk_132 2 1 (dk_at dksX3_markersOnMany_1 6 rfl rfl)
theorem dX3_markersOnMany_33 : decode cX3_markersOnMany 33 = .ok (.goto (-29), 3) := dk_167 255 227 (dk_at dksX3_markersOnMany_1 9 rfl rfl)
theorem dX3_markersOnMany_36 : decode cX3_markersOnMany 36 = .ok (.iload_n 1, 1) := dk_27 (dk_at dksX3_markersOnMany_1 12 rfl rfl)
theorem dX3_markersOnMany_37 : decode cX3_markersOnMany 37 = .ok (.ireturn, 1) := dk_172 (dk_at dksX3_markersOnMany_1 13 rfl rfl)
abbrev cX3_labelsMany : ByteArray := prog_21_method_55_code
def yX3_labelsMany : MethodName := ⟨RX3, "labelsMany", "()I"⟩
def dkwX3_labelsMany_1 : List UInt8 := [167, 0, 4, 3, 96, 60, 132, 2, 1, 167, 255, 227, 27, 172]
abbrev dktX3_labelsMany_1 : List UInt8 := dkwX3_labelsMany_1 ++ []
def dkwX3_labelsMany_0 : List UInt8 := [3, 60, 4, 61, 28, 42, 180, 0, 13, 3, 46, 163, 0, 25, 27, 42, 28, 182, 0, 218, 158, 0, 7, 4]
abbrev dktX3_labelsMany_0 : List UInt8 := dkwX3_labelsMany_0 ++ dktX3_labelsMany_1
theorem dksX3_labelsMany_0 : cX3_labelsMany.data.toList.drop 0 = dktX3_labelsMany_0 := by decide +kernel
theorem dksX3_labelsMany_1 : cX3_labelsMany.data.toList.drop 24 = dktX3_labelsMany_1 := dk_seg dksX3_labelsMany_0 24 rfl rfl
theorem dX3_labelsMany_0 : decode cX3_labelsMany 0 = .ok (.iconst 0, 1) := dk_3 (dk_at dksX3_labelsMany_0 0 rfl rfl)
theorem dX3_labelsMany_1 : decode cX3_labelsMany 1 = .ok (.istore_n 1, 1) := dk_60 (dk_at dksX3_labelsMany_0 1 rfl rfl)
theorem dX3_labelsMany_2 : decode cX3_labelsMany 2 = .ok (.iconst 1, 1) := dk_4 (dk_at dksX3_labelsMany_0 2 rfl rfl)
theorem dX3_labelsMany_3 : decode cX3_labelsMany 3 = .ok (.istore_n 2, 1) := dk_61 (dk_at dksX3_labelsMany_0 3 rfl rfl)
theorem dX3_labelsMany_4 : decode cX3_labelsMany 4 = .ok (.iload_n 2, 1) := dk_28 (dk_at dksX3_labelsMany_0 4 rfl rfl)
theorem dX3_labelsMany_5 : decode cX3_labelsMany 5 = .ok (.aload_n 0, 1) := dk_42 (dk_at dksX3_labelsMany_0 5 rfl rfl)
theorem dX3_labelsMany_6 : decode cX3_labelsMany 6 = .ok (.getfield 13, 3) := dk_180 0 13 (dk_at dksX3_labelsMany_0 6 rfl rfl)
theorem dX3_labelsMany_9 : decode cX3_labelsMany 9 = .ok (.iconst 0, 1) := dk_3 (dk_at dksX3_labelsMany_0 9 rfl rfl)
theorem dX3_labelsMany_10 : decode cX3_labelsMany 10 = .ok (.iaload, 1) := dk_46 (dk_at dksX3_labelsMany_0 10 rfl rfl)
theorem dX3_labelsMany_11 : decode cX3_labelsMany 11 = .ok (.if_icmp .gt 25, 3) := dk_163 0 25 (dk_at dksX3_labelsMany_0 11 rfl rfl)
theorem dX3_labelsMany_14 : decode cX3_labelsMany 14 = .ok (.iload_n 1, 1) := dk_27 (dk_at dksX3_labelsMany_0 14 rfl rfl)
theorem dX3_labelsMany_15 : decode cX3_labelsMany 15 = .ok (.aload_n 0, 1) := dk_42 (dk_at dksX3_labelsMany_0 15 rfl rfl)
theorem dX3_labelsMany_16 : decode cX3_labelsMany 16 = .ok (.iload_n 2, 1) := dk_28 (dk_at dksX3_labelsMany_0 16 rfl rfl)
theorem dX3_labelsMany_17 : decode cX3_labelsMany 17 = .ok (.invokevirtual 218, 3) := dk_182 0 218 (dk_at dksX3_labelsMany_0 17 rfl rfl)
theorem dX3_labelsMany_20 : decode cX3_labelsMany 20 = .ok (.ifCond .le 7, 3) := dk_158 0 7 (dk_at dksX3_labelsMany_0 20 rfl rfl)
theorem dX3_labelsMany_23 : decode cX3_labelsMany 23 = .ok (.iconst 1, 1) := dk_4 (dk_at dksX3_labelsMany_0 23 rfl rfl)
theorem dX3_labelsMany_24 : decode cX3_labelsMany 24 = .ok (.goto 4, 3) := dk_167 0 4 (dk_at dksX3_labelsMany_1 0 rfl rfl)
theorem dX3_labelsMany_27 : decode cX3_labelsMany 27 = .ok (.iconst 0, 1) := dk_3 (dk_at dksX3_labelsMany_1 3 rfl rfl)
theorem dX3_labelsMany_28 : decode cX3_labelsMany 28 = .ok (.iadd, 1) := dk_96 (dk_at dksX3_labelsMany_1 4 rfl rfl)
theorem dX3_labelsMany_29 : decode cX3_labelsMany 29 = .ok (.istore_n 1, 1) := dk_60 (dk_at dksX3_labelsMany_1 5 rfl rfl)
theorem dX3_labelsMany_30 : decode cX3_labelsMany 30 = .ok (.iinc 2 1, 3) := dk_132 2 1 (dk_at dksX3_labelsMany_1 6 rfl rfl)
theorem dX3_labelsMany_33 : decode cX3_labelsMany 33 = .ok (.goto (-29), 3) := dk_167 255 227 (dk_at dksX3_labelsMany_1 9 rfl rfl)
theorem dX3_labelsMany_36 : decode cX3_labelsMany 36 = .ok (.iload_n 1, 1) := dk_27 (dk_at dksX3_labelsMany_1 12 rfl rfl)
theorem dX3_labelsMany_37 : decode cX3_labelsMany 37 = .ok (.ireturn, 1) := dk_172 (dk_at dksX3_labelsMany_1 13 rfl rfl)
abbrev cX3_labelOf : ByteArray := prog_21_method_71_code
def yX3_labelOf : MethodName := ⟨RX3, "labelOf", "(I)I"⟩
def dkwX3_labelOf_3 : List UInt8 := [167, 0, 4, 3, 172]
abbrev dktX3_labelOf_3 : List UInt8 := dkwX3_labelOf_3 ++ []
def dkwX3_labelOf_2 : List UInt8 := [182, 0, 133, 16, 58, 160, 0, 21, 29, 28, 100, 4, 16, 8, 184, 0, 95, 153, 0, 9, 29, 28, 100]
abbrev dktX3_labelOf_2 : List UInt8 := dkwX3_labelOf_2 ++ dktX3_labelOf_3
def dkwX3_labelOf_1 : List UInt8 := [184, 0, 248, 153, 0, 9, 132, 3, 1, 167, 255, 232, 29, 42, 27, 182, 0, 139, 162, 0, 32, 42, 27, 29]
abbrev dktX3_labelOf_1 : List UInt8 := dkwX3_labelOf_1 ++ dktX3_labelOf_2
def dkwX3_labelOf_0 : List UInt8 := [42, 27, 182, 0, 189, 61, 28, 62, 29, 42, 27, 182, 0, 139, 162, 0, 21, 42, 27, 29, 182, 0, 133]
abbrev dktX3_labelOf_0 : List UInt8 := dkwX3_labelOf_0 ++ dktX3_labelOf_1
theorem dksX3_labelOf_0 : cX3_labelOf.data.toList.drop 0 = dktX3_labelOf_0 := by decide +kernel
theorem dksX3_labelOf_1 : cX3_labelOf.data.toList.drop 23 = dktX3_labelOf_1 := dk_seg dksX3_labelOf_0 23 rfl rfl
theorem dksX3_labelOf_2 : cX3_labelOf.data.toList.drop 47 = dktX3_labelOf_2 := dk_seg dksX3_labelOf_1 24 rfl rfl
theorem dksX3_labelOf_3 : cX3_labelOf.data.toList.drop 70 = dktX3_labelOf_3 := dk_seg dksX3_labelOf_2 23 rfl rfl
theorem dX3_labelOf_0 : decode cX3_labelOf 0 = .ok (.aload_n 0, 1) := dk_42 (dk_at dksX3_labelOf_0 0 rfl rfl)
theorem dX3_labelOf_1 : decode cX3_labelOf 1 = .ok (.iload_n 1, 1) := dk_27 (dk_at dksX3_labelOf_0 1 rfl rfl)
theorem dX3_labelOf_2 : decode cX3_labelOf 2 = .ok (.invokevirtual 189, 3) := dk_182 0 189 (dk_at dksX3_labelOf_0 2 rfl rfl)
theorem dX3_labelOf_5 : decode cX3_labelOf 5 = .ok (.istore_n 2, 1) := dk_61 (dk_at dksX3_labelOf_0 5 rfl rfl)
theorem dX3_labelOf_6 : decode cX3_labelOf 6 = .ok (.iload_n 2, 1) := dk_28 (dk_at dksX3_labelOf_0 6 rfl rfl)
theorem dX3_labelOf_7 : decode cX3_labelOf 7 = .ok (.istore_n 3, 1) := dk_62 (dk_at dksX3_labelOf_0 7 rfl rfl)
theorem dX3_labelOf_8 : decode cX3_labelOf 8 = .ok (.iload_n 3, 1) := dk_29 (dk_at dksX3_labelOf_0 8 rfl rfl)
theorem dX3_labelOf_9 : decode cX3_labelOf 9 = .ok (.aload_n 0, 1) := dk_42 (dk_at dksX3_labelOf_0 9 rfl rfl)
theorem dX3_labelOf_10 : decode cX3_labelOf 10 = .ok (.iload_n 1, 1) := dk_27 (dk_at dksX3_labelOf_0 10 rfl rfl)
theorem dX3_labelOf_11 : decode cX3_labelOf 11 = .ok (.invokevirtual 139, 3) := dk_182 0 139 (dk_at dksX3_labelOf_0 11 rfl rfl)
theorem dX3_labelOf_14 : decode cX3_labelOf 14 = .ok (.if_icmp .ge 21, 3) := dk_162 0 21 (dk_at dksX3_labelOf_0 14 rfl rfl)
theorem dX3_labelOf_17 : decode cX3_labelOf 17 = .ok (.aload_n 0, 1) := dk_42 (dk_at dksX3_labelOf_0 17 rfl rfl)
theorem dX3_labelOf_18 : decode cX3_labelOf 18 = .ok (.iload_n 1, 1) := dk_27 (dk_at dksX3_labelOf_0 18 rfl rfl)
theorem dX3_labelOf_19 : decode cX3_labelOf 19 = .ok (.iload_n 3, 1) := dk_29 (dk_at dksX3_labelOf_0 19 rfl rfl)
theorem dX3_labelOf_20 : decode cX3_labelOf 20 = .ok (.invokevirtual 133, 3) := dk_182 0 133 (dk_at dksX3_labelOf_0 20 rfl rfl)
theorem dX3_labelOf_23 : decode cX3_labelOf 23 = .ok (.invokestatic 248, 3) := dk_184 0 248 (dk_at dksX3_labelOf_1 0 rfl rfl)
theorem dX3_labelOf_26 : decode cX3_labelOf 26 = .ok (.ifCond .eq 9, 3) := dk_153 0 9 (dk_at dksX3_labelOf_1 3 rfl rfl)
theorem dX3_labelOf_29 : decode cX3_labelOf 29 = .ok (.iinc 3 1, 3) := dk_132 3 1 (dk_at dksX3_labelOf_1 6 rfl rfl)
theorem dX3_labelOf_32 : decode cX3_labelOf 32 = .ok (.goto (-24), 3) := dk_167 255 232 (dk_at dksX3_labelOf_1 9 rfl rfl)
theorem dX3_labelOf_35 : decode cX3_labelOf 35 = .ok (.iload_n 3, 1) := dk_29 (dk_at dksX3_labelOf_1 12 rfl rfl)
theorem dX3_labelOf_36 : decode cX3_labelOf 36 = .ok (.aload_n 0, 1) := dk_42 (dk_at dksX3_labelOf_1 13 rfl rfl)
theorem dX3_labelOf_37 : decode cX3_labelOf 37 = .ok (.iload_n 1, 1) := dk_27 (dk_at dksX3_labelOf_1 14 rfl rfl)
theorem dX3_labelOf_38 : decode cX3_labelOf 38 = .ok (.invokevirtual 139, 3) := dk_182 0 139 (dk_at dksX3_labelOf_1 15 rfl rfl)
theorem dX3_labelOf_41 : decode cX3_labelOf 41 = .ok (.if_icmp .ge 32, 3) := dk_162 0 32 (dk_at dksX3_labelOf_1 18 rfl rfl)
theorem dX3_labelOf_44 : decode cX3_labelOf 44 = .ok (.aload_n 0, 1) := dk_42 (dk_at dksX3_labelOf_1 21 rfl rfl)
theorem dX3_labelOf_45 : decode cX3_labelOf 45 = .ok (.iload_n 1, 1) := dk_27 (dk_at dksX3_labelOf_1 22 rfl rfl)
theorem dX3_labelOf_46 : decode cX3_labelOf 46 = .ok (.iload_n 3, 1) := dk_29 (dk_at dksX3_labelOf_1 23 rfl rfl)
theorem dX3_labelOf_47 : decode cX3_labelOf 47 = .ok (.invokevirtual 133, 3) := dk_182 0 133 (dk_at dksX3_labelOf_2 0 rfl rfl)
theorem dX3_labelOf_50 : decode cX3_labelOf 50 = .ok (.bipush 58, 2) := dk_16 58 (dk_at dksX3_labelOf_2 3 rfl rfl)
theorem dX3_labelOf_52 : decode cX3_labelOf 52 = .ok (.if_icmp .ne 21, 3) := dk_160 0 21 (dk_at dksX3_labelOf_2 5 rfl rfl)
theorem dX3_labelOf_55 : decode cX3_labelOf 55 = .ok (.iload_n 3, 1) := dk_29 (dk_at dksX3_labelOf_2 8 rfl rfl)
theorem dX3_labelOf_56 : decode cX3_labelOf 56 = .ok (.iload_n 2, 1) := dk_28 (dk_at dksX3_labelOf_2 9 rfl rfl)
theorem dX3_labelOf_57 : decode cX3_labelOf 57 = .ok (.isub, 1) := dk_100 (dk_at dksX3_labelOf_2 10 rfl rfl)
theorem dX3_labelOf_58 : decode cX3_labelOf 58 = .ok (.iconst 1, 1) := dk_4 (dk_at dksX3_labelOf_2 11 rfl rfl)
theorem dX3_labelOf_59 : decode cX3_labelOf 59 = .ok (.bipush 8, 2) := dk_16 8 (dk_at dksX3_labelOf_2 12 rfl rfl)
theorem dX3_labelOf_61 : decode cX3_labelOf 61 = .ok (.invokestatic 95, 3) := dk_184 0 95 (dk_at dksX3_labelOf_2 14 rfl rfl)
theorem dX3_labelOf_64 : decode cX3_labelOf 64 = .ok (.ifCond .eq 9, 3) := dk_153 0 9 (dk_at dksX3_labelOf_2 17 rfl rfl)
theorem dX3_labelOf_67 : decode cX3_labelOf 67 = .ok (.iload_n 3, 1) := dk_29 (dk_at dksX3_labelOf_2 20 rfl rfl)
theorem dX3_labelOf_68 : decode cX3_labelOf 68 = .ok (.iload_n 2, 1) := dk_28 (dk_at dksX3_labelOf_2 21 rfl rfl)
theorem dX3_labelOf_69 : decode cX3_labelOf 69 = .ok (.isub, 1) := dk_100 (dk_at dksX3_labelOf_2 22 rfl rfl)
theorem dX3_labelOf_70 : decode cX3_labelOf 70 = .ok (.goto 4, 3) := dk_167 0 4 (dk_at dksX3_labelOf_3 0 rfl rfl)
theorem dX3_labelOf_73 : decode cX3_labelOf 73 = .ok (.iconst 0, 1) := dk_3 (dk_at dksX3_labelOf_3 3 rfl rfl)
theorem dX3_labelOf_74 : decode cX3_labelOf 74 = .ok (.ireturn, 1) := dk_172 (dk_at dksX3_labelOf_3 4 rfl rfl)
abbrev cX3_isLetter : ByteArray := prog_21_method_70_code
def yX3_isLetter : MethodName := ⟨RX3, "isLetter", "(I)Z"⟩
def dkwX3_isLetter_0 : List UInt8 := [26, 16, 97, 16, 122, 184, 0, 95, 172]
abbrev dktX3_isLetter_0 : List UInt8 := dkwX3_isLetter_0 ++ []
theorem dksX3_isLetter_0 : cX3_isLetter.data.toList.drop 0 = dktX3_isLetter_0 := by decide +kernel
theorem dX3_isLetter_0 : decode cX3_isLetter 0 = .ok (.iload_n 0, 1) := dk_26 (dk_at dksX3_isLetter_0 0 rfl rfl)
theorem dX3_isLetter_1 : decode cX3_isLetter 1 = .ok (.bipush 97, 2) := dk_16 97 (dk_at dksX3_isLetter_0 1 rfl rfl)
theorem dX3_isLetter_3 : decode cX3_isLetter 3 = .ok (.bipush 122, 2) := dk_16 122 (dk_at dksX3_isLetter_0 3 rfl rfl)
theorem dX3_isLetter_5 : decode cX3_isLetter 5 = .ok (.invokestatic 95, 3) := dk_184 0 95 (dk_at dksX3_isLetter_0 5 rfl rfl)
theorem dX3_isLetter_8 : decode cX3_isLetter 8 = .ok (.ireturn, 1) := dk_172 (dk_at dksX3_isLetter_0 8 rfl rfl)
abbrev cX3_referencesMany : ByteArray := prog_21_method_56_code
def yX3_referencesMany : MethodName := ⟨RX3, "referencesMany", "()I"⟩
def dkwX3_referencesMany_1 : List UInt8 := [3, 167, 0, 4, 4, 96, 60, 132, 2, 1, 167, 255, 226, 27, 172]
abbrev dktX3_referencesMany_1 : List UInt8 := dkwX3_referencesMany_1 ++ []
def dkwX3_referencesMany_0 : List UInt8 := [3, 60, 4, 61, 28, 42, 180, 0, 13, 3, 46, 163, 0, 26, 27, 42, 28, 182, 0, 221, 2, 160, 0, 7]
abbrev dktX3_referencesMany_0 : List UInt8 := dkwX3_referencesMany_0 ++ dktX3_referencesMany_1
theorem dksX3_referencesMany_0 : cX3_referencesMany.data.toList.drop 0 = dktX3_referencesMany_0 := by decide +kernel
theorem dksX3_referencesMany_1 : cX3_referencesMany.data.toList.drop 24 = dktX3_referencesMany_1 := dk_seg dksX3_referencesMany_0 24 rfl rfl
theorem dX3_referencesMany_0 : decode cX3_referencesMany 0 = .ok (.iconst 0, 1) := dk_3 (dk_at dksX3_referencesMany_0 0 rfl rfl)
theorem dX3_referencesMany_1 : decode cX3_referencesMany 1 = .ok (.istore_n 1, 1) := dk_60 (dk_at dksX3_referencesMany_0 1 rfl rfl)
theorem dX3_referencesMany_2 : decode cX3_referencesMany 2 = .ok (.iconst 1, 1) := dk_4 (dk_at dksX3_referencesMany_0 2 rfl rfl)
theorem dX3_referencesMany_3 : decode cX3_referencesMany 3 = .ok (.istore_n 2, 1) := dk_61 (dk_at dksX3_referencesMany_0 3 rfl rfl)
theorem dX3_referencesMany_4 : decode cX3_referencesMany 4 = .ok (.iload_n 2, 1) := dk_28 (dk_at dksX3_referencesMany_0 4 rfl rfl)
theorem dX3_referencesMany_5 : decode cX3_referencesMany 5 = .ok (.aload_n 0, 1) := dk_42 (dk_at dksX3_referencesMany_0 5 rfl rfl)
theorem dX3_referencesMany_6 : decode cX3_referencesMany 6 = .ok (.getfield 13, 3) := dk_180 0 13 (dk_at dksX3_referencesMany_0 6 rfl rfl)
theorem dX3_referencesMany_9 : decode cX3_referencesMany 9 = .ok (.iconst 0, 1) := dk_3 (dk_at dksX3_referencesMany_0 9 rfl rfl)
theorem dX3_referencesMany_10 : decode cX3_referencesMany 10 = .ok (.iaload, 1) := dk_46 (dk_at dksX3_referencesMany_0 10 rfl rfl)
theorem dX3_referencesMany_11 : decode cX3_referencesMany 11 = .ok (.if_icmp .gt 26, 3) := dk_163 0 26 (dk_at dksX3_referencesMany_0 11 rfl rfl)
theorem dX3_referencesMany_14 : decode cX3_referencesMany 14 = .ok (.iload_n 1, 1) := dk_27 (dk_at dksX3_referencesMany_0 14 rfl rfl)
theorem dX3_referencesMany_15 : decode cX3_referencesMany 15 = .ok (.aload_n 0, 1) := dk_42 (dk_at dksX3_referencesMany_0 15 rfl rfl)
theorem dX3_referencesMany_16 : decode cX3_referencesMany 16 = .ok (.iload_n 2, 1) := dk_28 (dk_at dksX3_referencesMany_0 16 rfl rfl)
theorem dX3_referencesMany_17 : decode cX3_referencesMany 17 = .ok (.invokevirtual 221, 3) := dk_182 0 221 (dk_at dksX3_referencesMany_0 17 rfl rfl)
theorem dX3_referencesMany_20 : decode cX3_referencesMany 20 = .ok (.iconst (-1), 1) := dk_2 (dk_at dksX3_referencesMany_0 20 rfl rfl)
theorem dX3_referencesMany_21 : decode cX3_referencesMany 21 = .ok (.if_icmp .ne 7, 3) := dk_160 0 7 (dk_at dksX3_referencesMany_0 21 rfl rfl)
theorem dX3_referencesMany_24 : decode cX3_referencesMany 24 = .ok (.iconst 0, 1) := dk_3 (dk_at dksX3_referencesMany_1 0 rfl rfl)
theorem dX3_referencesMany_25 : decode cX3_referencesMany 25 = .ok (.goto 4, 3) := dk_167 0 4 (dk_at dksX3_referencesMany_1 1 rfl rfl)
theorem dX3_referencesMany_28 : decode cX3_referencesMany 28 = .ok (.iconst 1, 1) := dk_4 (dk_at dksX3_referencesMany_1 4 rfl rfl)
theorem dX3_referencesMany_29 : decode cX3_referencesMany 29 = .ok (.iadd, 1) := dk_96 (dk_at dksX3_referencesMany_1 5 rfl rfl)
theorem dX3_referencesMany_30 : decode cX3_referencesMany 30 = .ok (.istore_n 1, 1) := dk_60 (dk_at dksX3_referencesMany_1 6 rfl rfl)
theorem dX3_referencesMany_31 : decode cX3_referencesMany 31 = .ok (.iinc 2 1, 3) := dk_132 2 1 (dk_at dksX3_referencesMany_1 7 rfl rfl)
theorem dX3_referencesMany_34 : decode cX3_referencesMany 34 = .ok (.goto (-30), 3) := dk_167 255 226 (dk_at dksX3_referencesMany_1 10 rfl rfl)
theorem dX3_referencesMany_37 : decode cX3_referencesMany 37 = .ok (.iload_n 1, 1) := dk_27 (dk_at dksX3_referencesMany_1 13 rfl rfl)
theorem dX3_referencesMany_38 : decode cX3_referencesMany 38 = .ok (.ireturn, 1) := dk_172 (dk_at dksX3_referencesMany_1 14 rfl rfl)
abbrev cX3_referenceAt : ByteArray := prog_21_method_72_code
def yX3_referenceAt : MethodName := ⟨RX3, "referenceAt", "(I)I"⟩
def dkwX3_referenceAt_2 : List UInt8 := [2, 172]
abbrev dktX3_referenceAt_2 : List UInt8 := dkwX3_referenceAt_2 ++ []
def dkwX3_referenceAt_1 : List UInt8 := [42, 27, 28, 4, 96, 182, 0, 133, 184, 0, 248, 153, 0, 7, 28, 4, 96, 172, 132, 2, 1, 167, 255, 213]
abbrev dktX3_referenceAt_1 : List UInt8 := dkwX3_referenceAt_1 ++ dktX3_referenceAt_2
def dkwX3_referenceAt_0 : List UInt8 := [3, 61, 28, 4, 96, 42, 27, 182, 0, 139, 162, 0, 38, 42, 27, 28, 182, 0, 133, 16, 64, 160, 0, 21]
abbrev dktX3_referenceAt_0 : List UInt8 := dkwX3_referenceAt_0 ++ dktX3_referenceAt_1
theorem dksX3_referenceAt_0 : cX3_referenceAt.data.toList.drop 0 = dktX3_referenceAt_0 := by decide +kernel
theorem dksX3_referenceAt_1 : cX3_referenceAt.data.toList.drop 24 = dktX3_referenceAt_1 := dk_seg dksX3_referenceAt_0 24 rfl rfl
theorem dksX3_referenceAt_2 : cX3_referenceAt.data.toList.drop 48 = dktX3_referenceAt_2 := dk_seg dksX3_referenceAt_1 24 rfl rfl
theorem dX3_referenceAt_0 : decode cX3_referenceAt 0 = .ok (.iconst 0, 1) := dk_3 (dk_at dksX3_referenceAt_0 0 rfl rfl)
theorem dX3_referenceAt_1 : decode cX3_referenceAt 1 = .ok (.istore_n 2, 1) := dk_61 (dk_at dksX3_referenceAt_0 1 rfl rfl)
theorem dX3_referenceAt_2 : decode cX3_referenceAt 2 = .ok (.iload_n 2, 1) := dk_28 (dk_at dksX3_referenceAt_0 2 rfl rfl)
theorem dX3_referenceAt_3 : decode cX3_referenceAt 3 = .ok (.iconst 1, 1) := dk_4 (dk_at dksX3_referenceAt_0 3 rfl rfl)
theorem dX3_referenceAt_4 : decode cX3_referenceAt 4 = .ok (.iadd, 1) := dk_96 (dk_at dksX3_referenceAt_0 4 rfl rfl)
theorem dX3_referenceAt_5 : decode cX3_referenceAt 5 = .ok (.aload_n 0, 1) := dk_42 (dk_at dksX3_referenceAt_0 5 rfl rfl)
theorem dX3_referenceAt_6 : decode cX3_referenceAt 6 = .ok (.iload_n 1, 1) := dk_27 (dk_at dksX3_referenceAt_0 6 rfl rfl)
theorem dX3_referenceAt_7 : decode cX3_referenceAt 7 = .ok (.invokevirtual 139, 3) := dk_182 0 139 (dk_at dksX3_referenceAt_0 7 rfl rfl)
theorem dX3_referenceAt_10 : decode cX3_referenceAt 10 = .ok (.if_icmp .ge 38, 3) := dk_162 0 38 (dk_at dksX3_referenceAt_0 10 rfl rfl)
theorem dX3_referenceAt_13 : decode cX3_referenceAt 13 = .ok (.aload_n 0, 1) := dk_42 (dk_at dksX3_referenceAt_0 13 rfl rfl)
theorem dX3_referenceAt_14 : decode cX3_referenceAt 14 = .ok (.iload_n 1, 1) := dk_27 (dk_at dksX3_referenceAt_0 14 rfl rfl)
theorem dX3_referenceAt_15 : decode cX3_referenceAt 15 = .ok (.iload_n 2, 1) := dk_28 (dk_at dksX3_referenceAt_0 15 rfl rfl)
theorem dX3_referenceAt_16 : decode cX3_referenceAt 16 = .ok (.invokevirtual 133, 3) := dk_182 0 133 (dk_at dksX3_referenceAt_0 16 rfl rfl)
theorem dX3_referenceAt_19 : decode cX3_referenceAt 19 = .ok (.bipush 64, 2) := dk_16 64 (dk_at dksX3_referenceAt_0 19 rfl rfl)
theorem dX3_referenceAt_21 : decode cX3_referenceAt 21 = .ok (.if_icmp .ne 21, 3) := dk_160 0 21 (dk_at dksX3_referenceAt_0 21 rfl rfl)
theorem dX3_referenceAt_24 : decode cX3_referenceAt 24 = .ok (.aload_n 0, 1) := dk_42 (dk_at dksX3_referenceAt_1 0 rfl rfl)
theorem dX3_referenceAt_25 : decode cX3_referenceAt 25 = .ok (.iload_n 1, 1) := dk_27 (dk_at dksX3_referenceAt_1 1 rfl rfl)
theorem dX3_referenceAt_26 : decode cX3_referenceAt 26 = .ok (.iload_n 2, 1) := dk_28 (dk_at dksX3_referenceAt_1 2 rfl rfl)
theorem dX3_referenceAt_27 : decode cX3_referenceAt 27 = .ok (.iconst 1, 1) := dk_4 (dk_at dksX3_referenceAt_1 3 rfl rfl)
theorem dX3_referenceAt_28 : decode cX3_referenceAt 28 = .ok (.iadd, 1) := dk_96 (dk_at dksX3_referenceAt_1 4 rfl rfl)
theorem dX3_referenceAt_29 : decode cX3_referenceAt 29 = .ok (.invokevirtual 133, 3) := dk_182 0 133 (dk_at dksX3_referenceAt_1 5 rfl rfl)
theorem dX3_referenceAt_32 : decode cX3_referenceAt 32 = .ok (.invokestatic 248, 3) := dk_184 0 248 (dk_at dksX3_referenceAt_1 8 rfl rfl)
theorem dX3_referenceAt_35 : decode cX3_referenceAt 35 = .ok (.ifCond .eq 7, 3) := dk_153 0 7 (dk_at dksX3_referenceAt_1 11 rfl rfl)
theorem dX3_referenceAt_38 : decode cX3_referenceAt 38 = .ok (.iload_n 2, 1) := dk_28 (dk_at dksX3_referenceAt_1 14 rfl rfl)
theorem dX3_referenceAt_39 : decode cX3_referenceAt 39 = .ok (.iconst 1, 1) := dk_4 (dk_at dksX3_referenceAt_1 15 rfl rfl)
theorem dX3_referenceAt_40 : decode cX3_referenceAt 40 = .ok (.iadd, 1) := dk_96 (dk_at dksX3_referenceAt_1 16 rfl rfl)
theorem dX3_referenceAt_41 : decode cX3_referenceAt 41 = .ok (.ireturn, 1) := dk_172 (dk_at dksX3_referenceAt_1 17 rfl rfl)
theorem dX3_referenceAt_42 : decode cX3_referenceAt 42 = .ok (.iinc 2 1, 3) := dk_132 2 1 (dk_at dksX3_referenceAt_1 18 rfl rfl)
theorem dX3_referenceAt_45 : decode cX3_referenceAt 45 = .ok (.goto (-43), 3) := dk_167 255 213 (dk_at dksX3_referenceAt_1 21 rfl rfl)
theorem dX3_referenceAt_48 : decode cX3_referenceAt 48 = .ok (.iconst (-1), 1) := dk_2 (dk_at dksX3_referenceAt_2 0 rfl rfl)
theorem dX3_referenceAt_49 : decode cX3_referenceAt 49 = .ok (.ireturn, 1) := dk_172 (dk_at dksX3_referenceAt_2 1 rfl rfl)
abbrev cX3_region : ByteArray := prog_21_method_58_code
def yX3_region : MethodName := ⟨RX3, "region", "(II)I"⟩
def dkwX3_region_6 : List UInt8 := [46, 172]
abbrev dktX3_region_6 : List UInt8 := dkwX3_region_6 ++ []
def dkwX3_region_5 : List UInt8 := [27, 46, 172, 42, 180, 0, 49, 27, 46, 42, 180, 0, 46, 27, 46, 100, 4, 100, 172, 42, 180, 0, 61, 27]
abbrev dktX3_region_5 : List UInt8 := dkwX3_region_5 ++ dktX3_region_6
def dkwX3_region_4 : List UInt8 := [180, 0, 55, 27, 46, 172, 42, 27, 182, 0, 215, 153, 0, 7, 4, 167, 0, 4, 3, 172, 42, 180, 0, 58]
abbrev dktX3_region_4 : List UInt8 := dkwX3_region_4 ++ dktX3_region_5
def dkwX3_region_3 : List UInt8 := [42, 180, 0, 46, 27, 46, 172, 42, 180, 0, 49, 27, 46, 172, 42, 180, 0, 52, 27, 46, 172, 42]
abbrev dktX3_region_3 : List UInt8 := dkwX3_region_3 ++ dktX3_region_4
def dkwX3_region_2 : List UInt8 := [170, 0, 0, 0, 0, 0, 0, 109, 0, 0, 0, 0, 0, 0, 0, 6, 0, 0, 0, 44, 0, 0, 0, 51, 0, 0, 0, 58, 0, 0, 0, 65, 0, 0, 0, 72, 0, 0, 0, 86, 0, 0, 0, 93]
abbrev dktX3_region_2 : List UInt8 := dkwX3_region_2 ++ dktX3_region_3
def dkwX3_region_1 : List UInt8 := [182, 0, 170, 154, 0, 5, 3, 172, 28]
abbrev dktX3_region_1 : List UInt8 := dkwX3_region_1 ++ dktX3_region_2
def dkwX3_region_0 : List UInt8 := [42, 182, 0, 174, 42, 27, 3, 42, 180, 0, 145, 4, 100, 184, 0, 95, 28, 3, 16, 7, 184, 0, 95]
abbrev dktX3_region_0 : List UInt8 := dkwX3_region_0 ++ dktX3_region_1
theorem dksX3_region_0 : cX3_region.data.toList.drop 0 = dktX3_region_0 := by decide +kernel
theorem dksX3_region_1 : cX3_region.data.toList.drop 23 = dktX3_region_1 := dk_seg dksX3_region_0 23 rfl rfl
theorem dksX3_region_2 : cX3_region.data.toList.drop 32 = dktX3_region_2 := dk_seg dksX3_region_1 9 rfl rfl
theorem dksX3_region_3 : cX3_region.data.toList.drop 76 = dktX3_region_3 := dk_seg dksX3_region_2 44 rfl rfl
theorem dksX3_region_4 : cX3_region.data.toList.drop 98 = dktX3_region_4 := dk_seg dksX3_region_3 22 rfl rfl
theorem dksX3_region_5 : cX3_region.data.toList.drop 122 = dktX3_region_5 := dk_seg dksX3_region_4 24 rfl rfl
theorem dksX3_region_6 : cX3_region.data.toList.drop 146 = dktX3_region_6 := dk_seg dksX3_region_5 24 rfl rfl
theorem dX3_region_0 : decode cX3_region 0 = .ok (.aload_n 0, 1) := dk_42 (dk_at dksX3_region_0 0 rfl rfl)
theorem dX3_region_1 : decode cX3_region 1 = .ok (.invokevirtual 174, 3) := dk_182 0 174 (dk_at dksX3_region_0 1 rfl rfl)
theorem dX3_region_4 : decode cX3_region 4 = .ok (.aload_n 0, 1) := dk_42 (dk_at dksX3_region_0 4 rfl rfl)
theorem dX3_region_5 : decode cX3_region 5 = .ok (.iload_n 1, 1) := dk_27 (dk_at dksX3_region_0 5 rfl rfl)
theorem dX3_region_6 : decode cX3_region 6 = .ok (.iconst 0, 1) := dk_3 (dk_at dksX3_region_0 6 rfl rfl)
theorem dX3_region_7 : decode cX3_region 7 = .ok (.aload_n 0, 1) := dk_42 (dk_at dksX3_region_0 7 rfl rfl)
theorem dX3_region_8 : decode cX3_region 8 = .ok (.getfield 145, 3) := dk_180 0 145 (dk_at dksX3_region_0 8 rfl rfl)
theorem dX3_region_11 : decode cX3_region 11 = .ok (.iconst 1, 1) := dk_4 (dk_at dksX3_region_0 11 rfl rfl)
theorem dX3_region_12 : decode cX3_region 12 = .ok (.isub, 1) := dk_100 (dk_at dksX3_region_0 12 rfl rfl)
theorem dX3_region_13 : decode cX3_region 13 = .ok (.invokestatic 95, 3) := dk_184 0 95 (dk_at dksX3_region_0 13 rfl rfl)
theorem dX3_region_16 : decode cX3_region 16 = .ok (.iload_n 2, 1) := dk_28 (dk_at dksX3_region_0 16 rfl rfl)
theorem dX3_region_17 : decode cX3_region 17 = .ok (.iconst 0, 1) := dk_3 (dk_at dksX3_region_0 17 rfl rfl)
theorem dX3_region_18 : decode cX3_region 18 = .ok (.bipush 7, 2) := dk_16 7 (dk_at dksX3_region_0 18 rfl rfl)
theorem dX3_region_20 : decode cX3_region 20 = .ok (.invokestatic 95, 3) := dk_184 0 95 (dk_at dksX3_region_0 20 rfl rfl)
theorem dX3_region_23 : decode cX3_region 23 = .ok (.invokevirtual 170, 3) := dk_182 0 170 (dk_at dksX3_region_1 0 rfl rfl)
theorem dX3_region_26 : decode cX3_region 26 = .ok (.ifCond .ne 5, 3) := dk_154 0 5 (dk_at dksX3_region_1 3 rfl rfl)
theorem dX3_region_29 : decode cX3_region 29 = .ok (.iconst 0, 1) := dk_3 (dk_at dksX3_region_1 6 rfl rfl)
theorem dX3_region_30 : decode cX3_region 30 = .ok (.ireturn, 1) := dk_172 (dk_at dksX3_region_1 7 rfl rfl)
theorem dX3_region_31 : decode cX3_region 31 = .ok (.iload_n 2, 1) := dk_28 (dk_at dksX3_region_1 8 rfl rfl)
theorem dX3_region_32 : decode cX3_region 32 = .ok (.tableswitch 109 0 6 #[44, 51, 58, 65, 72, 86, 93], 44) := by decide +kernel
theorem dX3_region_76 : decode cX3_region 76 = .ok (.aload_n 0, 1) := dk_42 (dk_at dksX3_region_3 0 rfl rfl)
theorem dX3_region_77 : decode cX3_region 77 = .ok (.getfield 46, 3) := dk_180 0 46 (dk_at dksX3_region_3 1 rfl rfl)
theorem dX3_region_80 : decode cX3_region 80 = .ok (.iload_n 1, 1) := dk_27 (dk_at dksX3_region_3 4 rfl rfl)
theorem dX3_region_81 : decode cX3_region 81 = .ok (.iaload, 1) := dk_46 (dk_at dksX3_region_3 5 rfl rfl)
theorem dX3_region_82 : decode cX3_region 82 = .ok (.ireturn, 1) := dk_172 (dk_at dksX3_region_3 6 rfl rfl)
theorem dX3_region_83 : decode cX3_region 83 = .ok (.aload_n 0, 1) := dk_42 (dk_at dksX3_region_3 7 rfl rfl)
theorem dX3_region_84 : decode cX3_region 84 = .ok (.getfield 49, 3) := dk_180 0 49 (dk_at dksX3_region_3 8 rfl rfl)
theorem dX3_region_87 : decode cX3_region 87 = .ok (.iload_n 1, 1) := dk_27 (dk_at dksX3_region_3 11 rfl rfl)
theorem dX3_region_88 : decode cX3_region 88 = .ok (.iaload, 1) := dk_46 (dk_at dksX3_region_3 12 rfl rfl)
theorem dX3_region_89 : decode cX3_region 89 = .ok (.ireturn, 1) := dk_172 (dk_at dksX3_region_3 13 rfl rfl)
theorem dX3_region_90 : decode cX3_region 90 = .ok (.aload_n 0, 1) := dk_42 (dk_at dksX3_region_3 14 rfl rfl)
theorem dX3_region_91 : decode cX3_region 91 = .ok (.getfield 52, 3) := dk_180 0 52 (dk_at dksX3_region_3 15 rfl rfl)
theorem dX3_region_94 : decode cX3_region 94 = .ok (.iload_n 1, 1) := dk_27 (dk_at dksX3_region_3 18 rfl rfl)
theorem dX3_region_95 : decode cX3_region 95 = .ok (.iaload, 1) := dk_46 (dk_at dksX3_region_3 19 rfl rfl)
theorem dX3_region_96 : decode cX3_region 96 = .ok (.ireturn, 1) := dk_172 (dk_at dksX3_region_3 20 rfl rfl)
theorem dX3_region_97 : decode cX3_region 97 = .ok (.aload_n 0, 1) := dk_42 (dk_at dksX3_region_3 21 rfl rfl)
theorem dX3_region_98 : decode cX3_region 98 = .ok (.getfield 55, 3) := dk_180 0 55 (dk_at dksX3_region_4 0 rfl rfl)
theorem dX3_region_101 : decode cX3_region 101 = .ok (.iload_n 1, 1) := dk_27 (dk_at dksX3_region_4 3 rfl rfl)
theorem dX3_region_102 : decode cX3_region 102 = .ok (.iaload, 1) := dk_46 (dk_at dksX3_region_4 4 rfl rfl)
theorem dX3_region_103 : decode cX3_region 103 = .ok (.ireturn, 1) := dk_172 (dk_at dksX3_region_4 5 rfl rfl)
theorem dX3_region_104 : decode cX3_region 104 = .ok (.aload_n 0, 1) := dk_42 (dk_at dksX3_region_4 6 rfl rfl)
theorem dX3_region_105 : decode cX3_region 105 = .ok (.iload_n 1, 1) := dk_27 (dk_at dksX3_region_4 7 rfl rfl)
theorem dX3_region_106 : decode cX3_region 106 = .ok (.invokevirtual 215, 3) := dk_182 0 215 (dk_at dksX3_region_4 8 rfl rfl)
theorem dX3_region_109 : decode cX3_region 109 = .ok (.ifCond .eq 7, 3) := dk_153 0 7 (dk_at dksX3_region_4 11 rfl rfl)
theorem dX3_region_112 : decode cX3_region 112 = .ok (.iconst 1, 1) := dk_4 (dk_at dksX3_region_4 14 rfl rfl)
theorem dX3_region_113 : decode cX3_region 113 = .ok (.goto 4, 3) := dk_167 0 4 (dk_at dksX3_region_4 15 rfl rfl)
theorem dX3_region_116 : decode cX3_region 116 = .ok (.iconst 0, 1) := dk_3 (dk_at dksX3_region_4 18 rfl rfl)
theorem dX3_region_117 : decode cX3_region 117 = .ok (.ireturn, 1) := dk_172 (dk_at dksX3_region_4 19 rfl rfl)
theorem dX3_region_118 : decode cX3_region 118 = .ok (.aload_n 0, 1) := dk_42 (dk_at dksX3_region_4 20 rfl rfl)
theorem dX3_region_119 : decode cX3_region 119 = .ok (.getfield 58, 3) := dk_180 0 58 (dk_at dksX3_region_4 21 rfl rfl)
theorem dX3_region_122 : decode cX3_region 122 = .ok (.iload_n 1, 1) := dk_27 (dk_at dksX3_region_5 0 rfl rfl)
theorem dX3_region_123 : decode cX3_region 123 = .ok (.iaload, 1) := dk_46 (dk_at dksX3_region_5 1 rfl rfl)
theorem dX3_region_124 : decode cX3_region 124 = .ok (.ireturn, 1) := dk_172 (dk_at dksX3_region_5 2 rfl rfl)
theorem dX3_region_125 : decode cX3_region 125 = .ok (.aload_n 0, 1) := dk_42 (dk_at dksX3_region_5 3 rfl rfl)
theorem dX3_region_126 : decode cX3_region 126 = .ok (.getfield 49, 3) := dk_180 0 49 (dk_at dksX3_region_5 4 rfl rfl)
theorem dX3_region_129 : decode cX3_region 129 = .ok (.iload_n 1, 1) := dk_27 (dk_at dksX3_region_5 7 rfl rfl)
theorem dX3_region_130 : decode cX3_region 130 = .ok (.iaload, 1) := dk_46 (dk_at dksX3_region_5 8 rfl rfl)
theorem dX3_region_131 : decode cX3_region 131 = .ok (.aload_n 0, 1) := dk_42 (dk_at dksX3_region_5 9 rfl rfl)
theorem dX3_region_132 : decode cX3_region 132 = .ok (.getfield 46, 3) := dk_180 0 46 (dk_at dksX3_region_5 10 rfl rfl)
theorem dX3_region_135 : decode cX3_region 135 = .ok (.iload_n 1, 1) := dk_27 (dk_at dksX3_region_5 13 rfl rfl)
theorem dX3_region_136 : decode cX3_region 136 = .ok (.iaload, 1) := dk_46 (dk_at dksX3_region_5 14 rfl rfl)
theorem dX3_region_137 : decode cX3_region 137 = .ok (.isub, 1) := dk_100 (dk_at dksX3_region_5 15 rfl rfl)
theorem dX3_region_138 : decode cX3_region 138 = .ok (.iconst 1, 1) := dk_4 (dk_at dksX3_region_5 16 rfl rfl)
theorem dX3_region_139 : decode cX3_region 139 = .ok (.isub, 1) := dk_100 (dk_at dksX3_region_5 17 rfl rfl)
theorem dX3_region_140 : decode cX3_region 140 = .ok (.ireturn, 1) := dk_172 (dk_at dksX3_region_5 18 rfl rfl)
theorem dX3_region_141 : decode cX3_region 141 = .ok (.aload_n 0, 1) := dk_42 (dk_at dksX3_region_5 19 rfl rfl)
theorem dX3_region_142 : decode cX3_region 142 = .ok (.getfield 61, 3) := dk_180 0 61 (dk_at dksX3_region_5 20 rfl rfl)
theorem dX3_region_145 : decode cX3_region 145 = .ok (.iload_n 1, 1) := dk_27 (dk_at dksX3_region_5 23 rfl rfl)
theorem dX3_region_146 : decode cX3_region 146 = .ok (.iaload, 1) := dk_46 (dk_at dksX3_region_6 0 rfl rfl)
theorem dX3_region_147 : decode cX3_region 147 = .ok (.ireturn, 1) := dk_172 (dk_at dksX3_region_6 1 rfl rfl)
abbrev cX3_regionAt : ByteArray := prog_21_method_59_code
def yX3_regionAt : MethodName := ⟨RX3, "regionAt", "(I)I"⟩
def dkwX3_regionAt_0 : List UInt8 := [42, 42, 27, 182, 0, 167, 182, 0, 111, 153, 0, 11, 42, 27, 182, 0, 236, 167, 0, 4, 3, 172]
abbrev dktX3_regionAt_0 : List UInt8 := dkwX3_regionAt_0 ++ []
theorem dksX3_regionAt_0 : cX3_regionAt.data.toList.drop 0 = dktX3_regionAt_0 := by decide +kernel
theorem dX3_regionAt_0 : decode cX3_regionAt 0 = .ok (.aload_n 0, 1) := dk_42 (dk_at dksX3_regionAt_0 0 rfl rfl)
theorem dX3_regionAt_1 : decode cX3_regionAt 1 = .ok (.aload_n 0, 1) := dk_42 (dk_at dksX3_regionAt_0 1 rfl rfl)
theorem dX3_regionAt_2 : decode cX3_regionAt 2 = .ok (.iload_n 1, 1) := dk_27 (dk_at dksX3_regionAt_0 2 rfl rfl)
theorem dX3_regionAt_3 : decode cX3_regionAt 3 = .ok (.invokevirtual 167, 3) := dk_182 0 167 (dk_at dksX3_regionAt_0 3 rfl rfl)
theorem dX3_regionAt_6 : decode cX3_regionAt 6 = .ok (.invokevirtual 111, 3) := dk_182 0 111 (dk_at dksX3_regionAt_0 6 rfl rfl)
theorem dX3_regionAt_9 : decode cX3_regionAt 9 = .ok (.ifCond .eq 11, 3) := dk_153 0 11 (dk_at dksX3_regionAt_0 9 rfl rfl)
theorem dX3_regionAt_12 : decode cX3_regionAt 12 = .ok (.aload_n 0, 1) := dk_42 (dk_at dksX3_regionAt_0 12 rfl rfl)
theorem dX3_regionAt_13 : decode cX3_regionAt 13 = .ok (.iload_n 1, 1) := dk_27 (dk_at dksX3_regionAt_0 13 rfl rfl)
theorem dX3_regionAt_14 : decode cX3_regionAt 14 = .ok (.invokevirtual 236, 3) := dk_182 0 236 (dk_at dksX3_regionAt_0 14 rfl rfl)
theorem dX3_regionAt_17 : decode cX3_regionAt 17 = .ok (.goto 4, 3) := dk_167 0 4 (dk_at dksX3_regionAt_0 17 rfl rfl)
theorem dX3_regionAt_20 : decode cX3_regionAt 20 = .ok (.iconst 0, 1) := dk_3 (dk_at dksX3_regionAt_0 20 rfl rfl)
theorem dX3_regionAt_21 : decode cX3_regionAt 21 = .ok (.ireturn, 1) := dk_172 (dk_at dksX3_regionAt_0 21 rfl rfl)
abbrev cX3_innermost : ByteArray := prog_21_method_60_code
def yX3_innermost : MethodName := ⟨RX3, "innermost", "(I)I"⟩
def dkwX3_innermost_2 : List UInt8 := [61, 132, 3, 1, 167, 255, 214, 28, 172]
abbrev dktX3_innermost_2 : List UInt8 := dkwX3_innermost_2 ++ []
def dkwX3_innermost_1 : List UInt8 := [153, 0, 25, 28, 2, 159, 0, 18, 42, 180, 0, 58, 29, 46, 42, 180, 0, 58, 28, 46, 164, 0, 5, 29]
abbrev dktX3_innermost_1 : List UInt8 := dkwX3_innermost_1 ++ dktX3_innermost_2
def dkwX3_innermost_0 : List UInt8 := [42, 182, 0, 174, 2, 61, 3, 62, 29, 42, 180, 0, 145, 162, 0, 40, 42, 27, 29, 182, 0, 239]
abbrev dktX3_innermost_0 : List UInt8 := dkwX3_innermost_0 ++ dktX3_innermost_1
theorem dksX3_innermost_0 : cX3_innermost.data.toList.drop 0 = dktX3_innermost_0 := by decide +kernel
theorem dksX3_innermost_1 : cX3_innermost.data.toList.drop 22 = dktX3_innermost_1 := dk_seg dksX3_innermost_0 22 rfl rfl
theorem dksX3_innermost_2 : cX3_innermost.data.toList.drop 46 = dktX3_innermost_2 := dk_seg dksX3_innermost_1 24 rfl rfl
theorem dX3_innermost_0 : decode cX3_innermost 0 = .ok (.aload_n 0, 1) := dk_42 (dk_at dksX3_innermost_0 0 rfl rfl)
theorem dX3_innermost_1 : decode cX3_innermost 1 = .ok (.invokevirtual 174, 3) := dk_182 0 174 (dk_at dksX3_innermost_0 1 rfl rfl)
theorem dX3_innermost_4 : decode cX3_innermost 4 = .ok (.iconst (-1), 1) := dk_2 (dk_at dksX3_innermost_0 4 rfl rfl)
theorem dX3_innermost_5 : decode cX3_innermost 5 = .ok (.istore_n 2, 1) := dk_61 (dk_at dksX3_innermost_0 5 rfl rfl)
theorem dX3_innermost_6 : decode cX3_innermost 6 = .ok (.iconst 0, 1) := dk_3 (dk_at dksX3_innermost_0 6 rfl rfl)
theorem dX3_innermost_7 : decode cX3_innermost 7 = .ok (.istore_n 3, 1) := dk_62 (dk_at dksX3_innermost_0 7 rfl rfl)
theorem dX3_innermost_8 : decode cX3_innermost 8 = .ok (.iload_n 3, 1) := dk_29 (dk_at dksX3_innermost_0 8 rfl rfl)
theorem dX3_innermost_9 : decode cX3_innermost 9 = .ok (.aload_n 0, 1) := dk_42 (dk_at dksX3_innermost_0 9 rfl rfl)
theorem dX3_innermost_10 : decode cX3_innermost 10 = .ok (.getfield 145, 3) := dk_180 0 145 (dk_at dksX3_innermost_0 10 rfl rfl)
theorem dX3_innermost_13 : decode cX3_innermost 13 = .ok (.if_icmp .ge 40, 3) := dk_162 0 40 (dk_at dksX3_innermost_0 13 rfl rfl)
theorem dX3_innermost_16 : decode cX3_innermost 16 = .ok (.aload_n 0, 1) := dk_42 (dk_at dksX3_innermost_0 16 rfl rfl)
theorem dX3_innermost_17 : decode cX3_innermost 17 = .ok (.iload_n 1, 1) := dk_27 (dk_at dksX3_innermost_0 17 rfl rfl)
theorem dX3_innermost_18 : decode cX3_innermost 18 = .ok (.iload_n 3, 1) := dk_29 (dk_at dksX3_innermost_0 18 rfl rfl)
theorem dX3_innermost_19 : decode cX3_innermost 19 = .ok (.invokevirtual 239, 3) := dk_182 0 239 (dk_at dksX3_innermost_0 19 rfl rfl)
theorem dX3_innermost_22 : decode cX3_innermost 22 = .ok (.ifCond .eq 25, 3) := dk_153 0 25 (dk_at dksX3_innermost_1 0 rfl rfl)
theorem dX3_innermost_25 : decode cX3_innermost 25 = .ok (.iload_n 2, 1) := dk_28 (dk_at dksX3_innermost_1 3 rfl rfl)
theorem dX3_innermost_26 : decode cX3_innermost 26 = .ok (.iconst (-1), 1) := dk_2 (dk_at dksX3_innermost_1 4 rfl rfl)
theorem dX3_innermost_27 : decode cX3_innermost 27 = .ok (.if_icmp .eq 18, 3) := dk_159 0 18 (dk_at dksX3_innermost_1 5 rfl rfl)
theorem dX3_innermost_30 : decode cX3_innermost 30 = .ok (.aload_n 0, 1) := dk_42 (dk_at dksX3_innermost_1 8 rfl rfl)
theorem dX3_innermost_31 : decode cX3_innermost 31 = .ok (.getfield 58, 3) := dk_180 0 58 (dk_at dksX3_innermost_1 9 rfl rfl)
theorem dX3_innermost_34 : decode cX3_innermost 34 = .ok (.iload_n 3, 1) := dk_29 (dk_at dksX3_innermost_1 12 rfl rfl)
theorem dX3_innermost_35 : decode cX3_innermost 35 = .ok (.iaload, 1) := dk_46 (dk_at dksX3_innermost_1 13 rfl rfl)
theorem dX3_innermost_36 : decode cX3_innermost 36 = .ok (.aload_n 0, 1) := dk_42 (dk_at dksX3_innermost_1 14 rfl rfl)
theorem dX3_innermost_37 : decode cX3_innermost 37 = .ok (.getfield 58, 3) := dk_180 0 58 (dk_at dksX3_innermost_1 15 rfl rfl)
theorem dX3_innermost_40 : decode cX3_innermost 40 = .ok (.iload_n 2, 1) := dk_28 (dk_at dksX3_innermost_1 18 rfl rfl)
theorem dX3_innermost_41 : decode cX3_innermost 41 = .ok (.iaload, 1) := dk_46 (dk_at dksX3_innermost_1 19 rfl rfl)
theorem dX3_innermost_42 : decode cX3_innermost 42 = .ok (.if_icmp .le 5, 3) := dk_164 0 5 (dk_at dksX3_innermost_1 20 rfl rfl)
theorem dX3_innermost_45 : decode cX3_innermost 45 = .ok (.iload_n 3, 1) := dk_29 (dk_at dksX3_innermost_1 23 rfl rfl)
theorem dX3_innermost_46 : decode cX3_innermost 46 = .ok (.istore_n 2, 1) := dk_61 (dk_at dksX3_innermost_2 0 rfl rfl)
theorem dX3_innermost_47 : decode cX3_innermost 47 = .ok (.iinc 3 1, 3) := dk_132 3 1 (dk_at dksX3_innermost_2 1 rfl rfl)
theorem dX3_innermost_50 : decode cX3_innermost 50 = .ok (.goto (-42), 3) := dk_167 255 214 (dk_at dksX3_innermost_2 4 rfl rfl)
theorem dX3_innermost_53 : decode cX3_innermost 53 = .ok (.iload_n 2, 1) := dk_28 (dk_at dksX3_innermost_2 7 rfl rfl)
theorem dX3_innermost_54 : decode cX3_innermost 54 = .ok (.ireturn, 1) := dk_172 (dk_at dksX3_innermost_2 8 rfl rfl)
abbrev cX3_isInside : ByteArray := prog_21_method_33_code
def yX3_isInside : MethodName := ⟨RX3, "isInside", "(II)Z"⟩
def dkwX3_isInside_1 : List UInt8 := [3, 172]
abbrev dktX3_isInside_1 : List UInt8 := dkwX3_isInside_1 ++ []
def dkwX3_isInside_0 : List UInt8 := [27, 42, 180, 0, 46, 28, 46, 164, 0, 17, 27, 42, 180, 0, 49, 28, 46, 162, 0, 7, 4, 167, 0, 4]
abbrev dktX3_isInside_0 : List UInt8 := dkwX3_isInside_0 ++ dktX3_isInside_1
theorem dksX3_isInside_0 : cX3_isInside.data.toList.drop 0 = dktX3_isInside_0 := by decide +kernel
theorem dksX3_isInside_1 : cX3_isInside.data.toList.drop 24 = dktX3_isInside_1 := dk_seg dksX3_isInside_0 24 rfl rfl
theorem dX3_isInside_0 : decode cX3_isInside 0 = .ok (.iload_n 1, 1) := dk_27 (dk_at dksX3_isInside_0 0 rfl rfl)
theorem dX3_isInside_1 : decode cX3_isInside 1 = .ok (.aload_n 0, 1) := dk_42 (dk_at dksX3_isInside_0 1 rfl rfl)
theorem dX3_isInside_2 : decode cX3_isInside 2 = .ok (.getfield 46, 3) := dk_180 0 46 (dk_at dksX3_isInside_0 2 rfl rfl)
theorem dX3_isInside_5 : decode cX3_isInside 5 = .ok (.iload_n 2, 1) := dk_28 (dk_at dksX3_isInside_0 5 rfl rfl)
theorem dX3_isInside_6 : decode cX3_isInside 6 = .ok (.iaload, 1) := dk_46 (dk_at dksX3_isInside_0 6 rfl rfl)
theorem dX3_isInside_7 : decode cX3_isInside 7 = .ok (.if_icmp .le 17, 3) := dk_164 0 17 (dk_at dksX3_isInside_0 7 rfl rfl)
theorem dX3_isInside_10 : decode cX3_isInside 10 = .ok (.iload_n 1, 1) := dk_27 (dk_at dksX3_isInside_0 10 rfl rfl)
theorem dX3_isInside_11 : decode cX3_isInside 11 = .ok (.aload_n 0, 1) := dk_42 (dk_at dksX3_isInside_0 11 rfl rfl)
theorem dX3_isInside_12 : decode cX3_isInside 12 = .ok (.getfield 49, 3) := dk_180 0 49 (dk_at dksX3_isInside_0 12 rfl rfl)
theorem dX3_isInside_15 : decode cX3_isInside 15 = .ok (.iload_n 2, 1) := dk_28 (dk_at dksX3_isInside_0 15 rfl rfl)
theorem dX3_isInside_16 : decode cX3_isInside 16 = .ok (.iaload, 1) := dk_46 (dk_at dksX3_isInside_0 16 rfl rfl)
theorem dX3_isInside_17 : decode cX3_isInside 17 = .ok (.if_icmp .ge 7, 3) := dk_162 0 7 (dk_at dksX3_isInside_0 17 rfl rfl)
theorem dX3_isInside_20 : decode cX3_isInside 20 = .ok (.iconst 1, 1) := dk_4 (dk_at dksX3_isInside_0 20 rfl rfl)
theorem dX3_isInside_21 : decode cX3_isInside 21 = .ok (.goto 4, 3) := dk_167 0 4 (dk_at dksX3_isInside_0 21 rfl rfl)
theorem dX3_isInside_24 : decode cX3_isInside 24 = .ok (.iconst 0, 1) := dk_3 (dk_at dksX3_isInside_1 0 rfl rfl)
theorem dX3_isInside_25 : decode cX3_isInside 25 = .ok (.ireturn, 1) := dk_172 (dk_at dksX3_isInside_1 1 rfl rfl)
abbrev cX3_hiddenBy : ByteArray := prog_21_method_61_code
def yX3_hiddenBy : MethodName := ⟨RX3, "hiddenBy", "(I)I"⟩
def dkwX3_hiddenBy_3 : List UInt8 := [167, 255, 206, 28, 172]
abbrev dktX3_hiddenBy_3 : List UInt8 := dkwX3_hiddenBy_3 ++ []
def dkwX3_hiddenBy_2 : List UInt8 := [2, 159, 0, 18, 42, 180, 0, 58, 29, 46, 42, 180, 0, 58, 28, 46, 162, 0, 5, 29, 61, 132, 3, 1]
abbrev dktX3_hiddenBy_2 : List UInt8 := dkwX3_hiddenBy_2 ++ dktX3_hiddenBy_3
def dkwX3_hiddenBy_1 : List UInt8 := [180, 0, 145, 162, 0, 48, 42, 27, 29, 182, 0, 239, 153, 0, 33, 42, 29, 182, 0, 215, 153, 0, 25, 28]
abbrev dktX3_hiddenBy_1 : List UInt8 := dkwX3_hiddenBy_1 ++ dktX3_hiddenBy_2
def dkwX3_hiddenBy_0 : List UInt8 := [42, 42, 27, 182, 0, 167, 182, 0, 111, 154, 0, 5, 3, 172, 42, 182, 0, 174, 2, 61, 3, 62, 29, 42]
abbrev dktX3_hiddenBy_0 : List UInt8 := dkwX3_hiddenBy_0 ++ dktX3_hiddenBy_1
theorem dksX3_hiddenBy_0 : cX3_hiddenBy.data.toList.drop 0 = dktX3_hiddenBy_0 := by decide +kernel
theorem dksX3_hiddenBy_1 : cX3_hiddenBy.data.toList.drop 24 = dktX3_hiddenBy_1 := dk_seg dksX3_hiddenBy_0 24 rfl rfl
theorem dksX3_hiddenBy_2 : cX3_hiddenBy.data.toList.drop 48 = dktX3_hiddenBy_2 := dk_seg dksX3_hiddenBy_1 24 rfl rfl
theorem dksX3_hiddenBy_3 : cX3_hiddenBy.data.toList.drop 72 = dktX3_hiddenBy_3 := dk_seg dksX3_hiddenBy_2 24 rfl rfl
theorem dX3_hiddenBy_0 : decode cX3_hiddenBy 0 = .ok (.aload_n 0, 1) := dk_42 (dk_at dksX3_hiddenBy_0 0 rfl rfl)
theorem dX3_hiddenBy_1 : decode cX3_hiddenBy 1 = .ok (.aload_n 0, 1) := dk_42 (dk_at dksX3_hiddenBy_0 1 rfl rfl)
theorem dX3_hiddenBy_2 : decode cX3_hiddenBy 2 = .ok (.iload_n 1, 1) := dk_27 (dk_at dksX3_hiddenBy_0 2 rfl rfl)
theorem dX3_hiddenBy_3 : decode cX3_hiddenBy 3 = .ok (.invokevirtual 167, 3) := dk_182 0 167 (dk_at dksX3_hiddenBy_0 3 rfl rfl)
theorem dX3_hiddenBy_6 : decode cX3_hiddenBy 6 = .ok (.invokevirtual 111, 3) := dk_182 0 111 (dk_at dksX3_hiddenBy_0 6 rfl rfl)
theorem dX3_hiddenBy_9 : decode cX3_hiddenBy 9 = .ok (.ifCond .ne 5, 3) := dk_154 0 5 (dk_at dksX3_hiddenBy_0 9 rfl rfl)
theorem dX3_hiddenBy_12 : decode cX3_hiddenBy 12 = .ok (.iconst 0, 1) := dk_3 (dk_at dksX3_hiddenBy_0 12 rfl rfl)
theorem dX3_hiddenBy_13 : decode cX3_hiddenBy 13 = .ok (.ireturn, 1) := dk_172 (dk_at dksX3_hiddenBy_0 13 rfl rfl)
theorem dX3_hiddenBy_14 : decode cX3_hiddenBy 14 = .ok (.aload_n 0, 1) := dk_42 (dk_at dksX3_hiddenBy_0 14 rfl rfl)
theorem dX3_hiddenBy_15 : decode cX3_hiddenBy 15 = .ok (.invokevirtual 174, 3) := dk_182 0 174 (dk_at dksX3_hiddenBy_0 15 rfl rfl)
theorem dX3_hiddenBy_18 : decode cX3_hiddenBy 18 = .ok (.iconst (-1), 1) := dk_2 (dk_at dksX3_hiddenBy_0 18 rfl rfl)
theorem dX3_hiddenBy_19 : decode cX3_hiddenBy 19 = .ok (.istore_n 2, 1) := dk_61 (dk_at dksX3_hiddenBy_0 19 rfl rfl)
theorem dX3_hiddenBy_20 : decode cX3_hiddenBy 20 = .ok (.iconst 0, 1) := dk_3 (dk_at dksX3_hiddenBy_0 20 rfl rfl)
theorem dX3_hiddenBy_21 : decode cX3_hiddenBy 21 = .ok (.istore_n 3, 1) := dk_62 (dk_at dksX3_hiddenBy_0 21 rfl rfl)
theorem dX3_hiddenBy_22 : decode cX3_hiddenBy 22 = .ok (.iload_n 3, 1) := dk_29 (dk_at dksX3_hiddenBy_0 22 rfl rfl)
theorem dX3_hiddenBy_23 : decode cX3_hiddenBy 23 = .ok (.aload_n 0, 1) := dk_42 (dk_at dksX3_hiddenBy_0 23 rfl rfl)
theorem dX3_hiddenBy_24 : decode cX3_hiddenBy 24 = .ok (.getfield 145, 3) := dk_180 0 145 (dk_at dksX3_hiddenBy_1 0 rfl rfl)
theorem dX3_hiddenBy_27 : decode cX3_hiddenBy 27 = .ok (.if_icmp .ge 48, 3) := dk_162 0 48 (dk_at dksX3_hiddenBy_1 3 rfl rfl)
theorem dX3_hiddenBy_30 : decode cX3_hiddenBy 30 = .ok (.aload_n 0, 1) := dk_42 (dk_at dksX3_hiddenBy_1 6 rfl rfl)
theorem dX3_hiddenBy_31 : decode cX3_hiddenBy 31 = .ok (.iload_n 1, 1) := dk_27 (dk_at dksX3_hiddenBy_1 7 rfl rfl)
theorem dX3_hiddenBy_32 : decode cX3_hiddenBy 32 = .ok (.iload_n 3, 1) := dk_29 (dk_at dksX3_hiddenBy_1 8 rfl rfl)
theorem dX3_hiddenBy_33 : decode cX3_hiddenBy 33 = .ok (.invokevirtual 239, 3) := dk_182 0 239 (dk_at dksX3_hiddenBy_1 9 rfl rfl)
theorem dX3_hiddenBy_36 : decode cX3_hiddenBy 36 = .ok (.ifCond .eq 33, 3) := dk_153 0 33 (dk_at dksX3_hiddenBy_1 12 rfl rfl)
theorem dX3_hiddenBy_39 : decode cX3_hiddenBy 39 = .ok (.aload_n 0, 1) := dk_42 (dk_at dksX3_hiddenBy_1 15 rfl rfl)
theorem dX3_hiddenBy_40 : decode cX3_hiddenBy 40 = .ok (.iload_n 3, 1) := dk_29 (dk_at dksX3_hiddenBy_1 16 rfl rfl)
theorem dX3_hiddenBy_41 : decode cX3_hiddenBy 41 = .ok (.invokevirtual 215, 3) := dk_182 0 215 (dk_at dksX3_hiddenBy_1 17 rfl rfl)
theorem dX3_hiddenBy_44 : decode cX3_hiddenBy 44 = .ok (.ifCond .eq 25, 3) := dk_153 0 25 (dk_at dksX3_hiddenBy_1 20 rfl rfl)
theorem dX3_hiddenBy_47 : decode cX3_hiddenBy 47 = .ok (.iload_n 2, 1) := dk_28 (dk_at dksX3_hiddenBy_1 23 rfl rfl)
theorem dX3_hiddenBy_48 : decode cX3_hiddenBy 48 = .ok (.iconst (-1), 1) := dk_2 (dk_at dksX3_hiddenBy_2 0 rfl rfl)
theorem dX3_hiddenBy_49 : decode cX3_hiddenBy 49 = .ok (.if_icmp .eq 18, 3) := dk_159 0 18 (dk_at dksX3_hiddenBy_2 1 rfl rfl)
theorem dX3_hiddenBy_52 : decode cX3_hiddenBy 52 = .ok (.aload_n 0, 1) := dk_42 (dk_at dksX3_hiddenBy_2 4 rfl rfl)
theorem dX3_hiddenBy_53 : decode cX3_hiddenBy 53 = .ok (.getfield 58, 3) := dk_180 0 58 (dk_at dksX3_hiddenBy_2 5 rfl rfl)
theorem dX3_hiddenBy_56 : decode cX3_hiddenBy 56 = .ok (.iload_n 3, 1) := dk_29 (dk_at dksX3_hiddenBy_2 8 rfl rfl)
theorem dX3_hiddenBy_57 : decode cX3_hiddenBy 57 = .ok (.iaload, 1) := dk_46 (dk_at dksX3_hiddenBy_2 9 rfl rfl)
theorem dX3_hiddenBy_58 : decode cX3_hiddenBy 58 = .ok (.aload_n 0, 1) := dk_42 (dk_at dksX3_hiddenBy_2 10 rfl rfl)
theorem dX3_hiddenBy_59 : decode cX3_hiddenBy 59 = .ok (.getfield 58, 3) := dk_180 0 58 (dk_at dksX3_hiddenBy_2 11 rfl rfl)
theorem dX3_hiddenBy_62 : decode cX3_hiddenBy 62 = .ok (.iload_n 2, 1) := dk_28 (dk_at dksX3_hiddenBy_2 14 rfl rfl)
theorem dX3_hiddenBy_63 : decode cX3_hiddenBy 63 = .ok (.iaload, 1) := dk_46 (dk_at dksX3_hiddenBy_2 15 rfl rfl)
theorem dX3_hiddenBy_64 : decode cX3_hiddenBy 64 = .ok (.if_icmp .ge 5, 3) := dk_162 0 5 (dk_at dksX3_hiddenBy_2 16 rfl rfl)
theorem dX3_hiddenBy_67 : decode cX3_hiddenBy 67 = .ok (.iload_n 3, 1) := dk_29 (dk_at dksX3_hiddenBy_2 19 rfl rfl)
theorem dX3_hiddenBy_68 : decode cX3_hiddenBy 68 = .ok (.istore_n 2, 1) := dk_61 (dk_at dksX3_hiddenBy_2 20 rfl rfl)
theorem dX3_hiddenBy_69 : decode cX3_hiddenBy 69 = .ok (.iinc 3 1, 3) := dk_132 3 1 (dk_at dksX3_hiddenBy_2 21 rfl rfl)
theorem dX3_hiddenBy_72 : decode cX3_hiddenBy 72 = .ok (.goto (-50), 3) := dk_167 255 206 (dk_at dksX3_hiddenBy_3 0 rfl rfl)
theorem dX3_hiddenBy_75 : decode cX3_hiddenBy 75 = .ok (.iload_n 2, 1) := dk_28 (dk_at dksX3_hiddenBy_3 3 rfl rfl)
theorem dX3_hiddenBy_76 : decode cX3_hiddenBy 76 = .ok (.ireturn, 1) := dk_172 (dk_at dksX3_hiddenBy_3 4 rfl rfl)
abbrev cX3_partner : ByteArray := prog_21_method_63_code
def yX3_partner : MethodName := ⟨RX3, "partner", "(II)I"⟩
def dkwX3_partner_3 : List UInt8 := [54, 4, 21, 4, 2, 160, 0, 7, 2, 167, 0, 8, 21, 4, 184, 0, 242, 172]
abbrev dktX3_partner_3 : List UInt8 := dkwX3_partner_3 ++ []
def dkwX3_partner_2 : List UInt8 := [3, 182, 0, 170, 154, 0, 5, 3, 172, 42, 182, 0, 151, 42, 180, 0, 37, 27, 28, 184, 0, 142, 46]
abbrev dktX3_partner_2 : List UInt8 := dkwX3_partner_2 ++ dktX3_partner_3
def dkwX3_partner_1 : List UInt8 := [167, 0, 4, 3, 62, 42, 29, 29, 153, 0, 16, 42, 27, 28, 182, 0, 154, 153, 0, 7, 4, 167, 0, 4]
abbrev dktX3_partner_1 : List UInt8 := dkwX3_partner_1 ++ dktX3_partner_2
def dkwX3_partner_0 : List UInt8 := [42, 27, 182, 0, 167, 153, 0, 22, 28, 3, 42, 27, 182, 0, 139, 4, 100, 184, 0, 95, 153, 0, 7, 4]
abbrev dktX3_partner_0 : List UInt8 := dkwX3_partner_0 ++ dktX3_partner_1
theorem dksX3_partner_0 : cX3_partner.data.toList.drop 0 = dktX3_partner_0 := by decide +kernel
theorem dksX3_partner_1 : cX3_partner.data.toList.drop 24 = dktX3_partner_1 := dk_seg dksX3_partner_0 24 rfl rfl
theorem dksX3_partner_2 : cX3_partner.data.toList.drop 48 = dktX3_partner_2 := dk_seg dksX3_partner_1 24 rfl rfl
theorem dksX3_partner_3 : cX3_partner.data.toList.drop 71 = dktX3_partner_3 := dk_seg dksX3_partner_2 23 rfl rfl
theorem dX3_partner_0 : decode cX3_partner 0 = .ok (.aload_n 0, 1) := dk_42 (dk_at dksX3_partner_0 0 rfl rfl)
theorem dX3_partner_1 : decode cX3_partner 1 = .ok (.iload_n 1, 1) := dk_27 (dk_at dksX3_partner_0 1 rfl rfl)
theorem dX3_partner_2 : decode cX3_partner 2 = .ok (.invokevirtual 167, 3) := dk_182 0 167 (dk_at dksX3_partner_0 2 rfl rfl)
theorem dX3_partner_5 : decode cX3_partner 5 = .ok (.ifCond .eq 22, 3) := dk_153 0 22 (dk_at dksX3_partner_0 5 rfl rfl)
theorem dX3_partner_8 : decode cX3_partner 8 = .ok (.iload_n 2, 1) := dk_28 (dk_at dksX3_partner_0 8 rfl rfl)
theorem dX3_partner_9 : decode cX3_partner 9 = .ok (.iconst 0, 1) := dk_3 (dk_at dksX3_partner_0 9 rfl rfl)
theorem dX3_partner_10 : decode cX3_partner 10 = .ok (.aload_n 0, 1) := dk_42 (dk_at dksX3_partner_0 10 rfl rfl)
theorem dX3_partner_11 : decode cX3_partner 11 = .ok (.iload_n 1, 1) := dk_27 (dk_at dksX3_partner_0 11 rfl rfl)
theorem dX3_partner_12 : decode cX3_partner 12 = .ok (.invokevirtual 139, 3) := dk_182 0 139 (dk_at dksX3_partner_0 12 rfl rfl)
theorem dX3_partner_15 : decode cX3_partner 15 = .ok (.iconst 1, 1) := dk_4 (dk_at dksX3_partner_0 15 rfl rfl)
theorem dX3_partner_16 : decode cX3_partner 16 = .ok (.isub, 1) := dk_100 (dk_at dksX3_partner_0 16 rfl rfl)
theorem dX3_partner_17 : decode cX3_partner 17 = .ok (.invokestatic 95, 3) := dk_184 0 95 (dk_at dksX3_partner_0 17 rfl rfl)
theorem dX3_partner_20 : decode cX3_partner 20 = .ok (.ifCond .eq 7, 3) := dk_153 0 7 (dk_at dksX3_partner_0 20 rfl rfl)
theorem dX3_partner_23 : decode cX3_partner 23 = .ok (.iconst 1, 1) := dk_4 (dk_at dksX3_partner_0 23 rfl rfl)
theorem dX3_partner_24 : decode cX3_partner 24 = .ok (.goto 4, 3) := dk_167 0 4 (dk_at dksX3_partner_1 0 rfl rfl)
theorem dX3_partner_27 : decode cX3_partner 27 = .ok (.iconst 0, 1) := dk_3 (dk_at dksX3_partner_1 3 rfl rfl)
theorem dX3_partner_28 : decode cX3_partner 28 = .ok (.istore_n 3, 1) := dk_62 (dk_at dksX3_partner_1 4 rfl rfl)
theorem dX3_partner_29 : decode cX3_partner 29 = .ok (.aload_n 0, 1) := dk_42 (dk_at dksX3_partner_1 5 rfl rfl)
theorem dX3_partner_30 : decode cX3_partner 30 = .ok (.iload_n 3, 1) := dk_29 (dk_at dksX3_partner_1 6 rfl rfl)
theorem dX3_partner_31 : decode cX3_partner 31 = .ok (.iload_n 3, 1) := dk_29 (dk_at dksX3_partner_1 7 rfl rfl)
theorem dX3_partner_32 : decode cX3_partner 32 = .ok (.ifCond .eq 16, 3) := dk_153 0 16 (dk_at dksX3_partner_1 8 rfl rfl)
theorem dX3_partner_35 : decode cX3_partner 35 = .ok (.aload_n 0, 1) := dk_42 (dk_at dksX3_partner_1 11 rfl rfl)
theorem dX3_partner_36 : decode cX3_partner 36 = .ok (.iload_n 1, 1) := dk_27 (dk_at dksX3_partner_1 12 rfl rfl)
theorem dX3_partner_37 : decode cX3_partner 37 = .ok (.iload_n 2, 1) := dk_28 (dk_at dksX3_partner_1 13 rfl rfl)
theorem dX3_partner_38 : decode cX3_partner 38 = .ok (.invokevirtual 154, 3) := dk_182 0 154 (dk_at dksX3_partner_1 14 rfl rfl)
theorem dX3_partner_41 : decode cX3_partner 41 = .ok (.ifCond .eq 7, 3) := dk_153 0 7 (dk_at dksX3_partner_1 17 rfl rfl)
theorem dX3_partner_44 : decode cX3_partner 44 = .ok (.iconst 1, 1) := dk_4 (dk_at dksX3_partner_1 20 rfl rfl)
theorem dX3_partner_45 : decode cX3_partner 45 = .ok (.goto 4, 3) := dk_167 0 4 (dk_at dksX3_partner_1 21 rfl rfl)
theorem dX3_partner_48 : decode cX3_partner 48 = .ok (.iconst 0, 1) := dk_3 (dk_at dksX3_partner_2 0 rfl rfl)
theorem dX3_partner_49 : decode cX3_partner 49 = .ok (.invokevirtual 170, 3) := dk_182 0 170 (dk_at dksX3_partner_2 1 rfl rfl)
theorem dX3_partner_52 : decode cX3_partner 52 = .ok (.ifCond .ne 5, 3) := dk_154 0 5 (dk_at dksX3_partner_2 4 rfl rfl)
theorem dX3_partner_55 : decode cX3_partner 55 = .ok (.iconst 0, 1) := dk_3 (dk_at dksX3_partner_2 7 rfl rfl)
theorem dX3_partner_56 : decode cX3_partner 56 = .ok (.ireturn, 1) := dk_172 (dk_at dksX3_partner_2 8 rfl rfl)
theorem dX3_partner_57 : decode cX3_partner 57 = .ok (.aload_n 0, 1) := dk_42 (dk_at dksX3_partner_2 9 rfl rfl)
theorem dX3_partner_58 : decode cX3_partner 58 = .ok (.invokevirtual 151, 3) := dk_182 0 151 (dk_at dksX3_partner_2 10 rfl rfl)
theorem dX3_partner_61 : decode cX3_partner 61 = .ok (.aload_n 0, 1) := dk_42 (dk_at dksX3_partner_2 13 rfl rfl)
theorem dX3_partner_62 : decode cX3_partner 62 = .ok (.getfield 37, 3) := dk_180 0 37 (dk_at dksX3_partner_2 14 rfl rfl)
theorem dX3_partner_65 : decode cX3_partner 65 = .ok (.iload_n 1, 1) := dk_27 (dk_at dksX3_partner_2 17 rfl rfl)
theorem dX3_partner_66 : decode cX3_partner 66 = .ok (.iload_n 2, 1) := dk_28 (dk_at dksX3_partner_2 18 rfl rfl)
theorem dX3_partner_67 : decode cX3_partner 67 = .ok (.invokestatic 142, 3) := dk_184 0 142 (dk_at dksX3_partner_2 19 rfl rfl)
theorem dX3_partner_70 : decode cX3_partner 70 = .ok (.iaload, 1) := dk_46 (dk_at dksX3_partner_2 22 rfl rfl)
theorem dX3_partner_71 : decode cX3_partner 71 = .ok (.istore 4, 2) := dk_54 4 (dk_at dksX3_partner_3 0 rfl rfl)
theorem dX3_partner_73 : decode cX3_partner 73 = .ok (.iload 4, 2) := dk_21 4 (dk_at dksX3_partner_3 2 rfl rfl)
theorem dX3_partner_75 : decode cX3_partner 75 = .ok (.iconst (-1), 1) := dk_2 (dk_at dksX3_partner_3 4 rfl rfl)
theorem dX3_partner_76 : decode cX3_partner 76 = .ok (.if_icmp .ne 7, 3) := dk_160 0 7 (dk_at dksX3_partner_3 5 rfl rfl)
theorem dX3_partner_79 : decode cX3_partner 79 = .ok (.iconst (-1), 1) := dk_2 (dk_at dksX3_partner_3 8 rfl rfl)
theorem dX3_partner_80 : decode cX3_partner 80 = .ok (.goto 8, 3) := dk_167 0 8 (dk_at dksX3_partner_3 9 rfl rfl)
theorem dX3_partner_83 : decode cX3_partner 83 = .ok (.iload 4, 2) := dk_21 4 (dk_at dksX3_partner_3 12 rfl rfl)
theorem dX3_partner_85 : decode cX3_partner 85 = .ok (.invokestatic 242, 3) := dk_184 0 242 (dk_at dksX3_partner_3 14 rfl rfl)
theorem dX3_partner_88 : decode cX3_partner 88 = .ok (.ireturn, 1) := dk_172 (dk_at dksX3_partner_3 17 rfl rfl)
abbrev cX3_told : ByteArray := prog_21_method_62_code
def yX3_told : MethodName := ⟨RX3, "told", "(I)I"⟩
def dkwX3_told_0 : List UInt8 := [16, 100, 26, 184, 0, 148, 104, 26, 16, 24, 112, 96, 172]
abbrev dktX3_told_0 : List UInt8 := dkwX3_told_0 ++ []
theorem dksX3_told_0 : cX3_told.data.toList.drop 0 = dktX3_told_0 := by decide +kernel
theorem dX3_told_0 : decode cX3_told 0 = .ok (.bipush 100, 2) := dk_16 100 (dk_at dksX3_told_0 0 rfl rfl)
theorem dX3_told_2 : decode cX3_told 2 = .ok (.iload_n 0, 1) := dk_26 (dk_at dksX3_told_0 2 rfl rfl)
theorem dX3_told_3 : decode cX3_told 3 = .ok (.invokestatic 148, 3) := dk_184 0 148 (dk_at dksX3_told_0 3 rfl rfl)
theorem dX3_told_6 : decode cX3_told 6 = .ok (.imul, 1) := dk_104 (dk_at dksX3_told_0 6 rfl rfl)
theorem dX3_told_7 : decode cX3_told 7 = .ok (.iload_n 0, 1) := dk_26 (dk_at dksX3_told_0 7 rfl rfl)
theorem dX3_told_8 : decode cX3_told 8 = .ok (.bipush 24, 2) := dk_16 24 (dk_at dksX3_told_0 8 rfl rfl)
theorem dX3_told_10 : decode cX3_told 10 = .ok (.irem, 1) := dk_112 (dk_at dksX3_told_0 10 rfl rfl)
theorem dX3_told_11 : decode cX3_told 11 = .ok (.iadd, 1) := dk_96 (dk_at dksX3_told_0 11 rfl rfl)
theorem dX3_told_12 : decode cX3_told 12 = .ok (.ireturn, 1) := dk_172 (dk_at dksX3_told_0 12 rfl rfl)
abbrev cX3_loose : ByteArray := prog_21_method_64_code
def yX3_loose : MethodName := ⟨RX3, "loose", "(I)I"⟩
def dkwX3_loose_4 : List UInt8 := [132, 4, 1, 167, 255, 198, 132, 3, 1, 167, 255, 179, 3, 172]
abbrev dktX3_loose_4 : List UInt8 := dkwX3_loose_4 ++ []
def dkwX3_loose_3 : List UInt8 := [2, 159, 0, 6, 167, 0, 20, 28, 154, 0, 13, 29, 21, 4, 184, 0, 142, 184, 0, 242, 172, 132, 2, 255]
abbrev dktX3_loose_3 : List UInt8 := dkwX3_loose_3 ++ dktX3_loose_4
def dkwX3_loose_2 : List UInt8 := [162, 0, 54, 42, 29, 21, 4, 182, 0, 154, 153, 0, 38, 42, 180, 0, 37, 29, 21, 4, 184, 0, 142, 46]
abbrev dktX3_loose_2 : List UInt8 := dkwX3_loose_2 ++ dktX3_loose_3
def dkwX3_loose_1 : List UInt8 := [27, 61, 4, 62, 29, 42, 180, 0, 13, 3, 46, 163, 0, 73, 3, 54, 4, 21, 4, 42, 29, 182, 0, 139]
abbrev dktX3_loose_1 : List UInt8 := dkwX3_loose_1 ++ dktX3_loose_2
def dkwX3_loose_0 : List UInt8 := [42, 182, 0, 151, 42, 27, 3, 42, 180, 0, 136, 4, 100, 184, 0, 95, 182, 0, 111, 154, 0, 5, 3, 172]
abbrev dktX3_loose_0 : List UInt8 := dkwX3_loose_0 ++ dktX3_loose_1
theorem dksX3_loose_0 : cX3_loose.data.toList.drop 0 = dktX3_loose_0 := by decide +kernel
theorem dksX3_loose_1 : cX3_loose.data.toList.drop 24 = dktX3_loose_1 := dk_seg dksX3_loose_0 24 rfl rfl
theorem dksX3_loose_2 : cX3_loose.data.toList.drop 48 = dktX3_loose_2 := dk_seg dksX3_loose_1 24 rfl rfl
theorem dksX3_loose_3 : cX3_loose.data.toList.drop 72 = dktX3_loose_3 := dk_seg dksX3_loose_2 24 rfl rfl
theorem dksX3_loose_4 : cX3_loose.data.toList.drop 96 = dktX3_loose_4 := dk_seg dksX3_loose_3 24 rfl rfl
theorem dX3_loose_0 : decode cX3_loose 0 = .ok (.aload_n 0, 1) := dk_42 (dk_at dksX3_loose_0 0 rfl rfl)
theorem dX3_loose_1 : decode cX3_loose 1 = .ok (.invokevirtual 151, 3) := dk_182 0 151 (dk_at dksX3_loose_0 1 rfl rfl)
theorem dX3_loose_4 : decode cX3_loose 4 = .ok (.aload_n 0, 1) := dk_42 (dk_at dksX3_loose_0 4 rfl rfl)
theorem dX3_loose_5 : decode cX3_loose 5 = .ok (.iload_n 1, 1) := dk_27 (dk_at dksX3_loose_0 5 rfl rfl)
theorem dX3_loose_6 : decode cX3_loose 6 = .ok (.iconst 0, 1) := dk_3 (dk_at dksX3_loose_0 6 rfl rfl)
theorem dX3_loose_7 : decode cX3_loose 7 = .ok (.aload_n 0, 1) := dk_42 (dk_at dksX3_loose_0 7 rfl rfl)
theorem dX3_loose_8 : decode cX3_loose 8 = .ok (.getfield 136, 3) := dk_180 0 136 (dk_at dksX3_loose_0 8 rfl rfl)
theorem dX3_loose_11 : decode cX3_loose 11 = .ok (.iconst 1, 1) := dk_4 (dk_at dksX3_loose_0 11 rfl rfl)
theorem dX3_loose_12 : decode cX3_loose 12 = .ok (.isub, 1) := dk_100 (dk_at dksX3_loose_0 12 rfl rfl)
theorem dX3_loose_13 : decode cX3_loose 13 = .ok (.invokestatic 95, 3) := dk_184 0 95 (dk_at dksX3_loose_0 13 rfl rfl)
theorem dX3_loose_16 : decode cX3_loose 16 = .ok (.invokevirtual 111, 3) := dk_182 0 111 (dk_at dksX3_loose_0 16 rfl rfl)
theorem dX3_loose_19 : decode cX3_loose 19 = .ok (.ifCond .ne 5, 3) := dk_154 0 5 (dk_at dksX3_loose_0 19 rfl rfl)
theorem dX3_loose_22 : decode cX3_loose 22 = .ok (.iconst 0, 1) := dk_3 (dk_at dksX3_loose_0 22 rfl rfl)
theorem dX3_loose_23 : decode cX3_loose 23 = .ok (.ireturn, 1) := dk_172 (dk_at dksX3_loose_0 23 rfl rfl)
theorem dX3_loose_24 : decode cX3_loose 24 = .ok (.iload_n 1, 1) := dk_27 (dk_at dksX3_loose_1 0 rfl rfl)
theorem dX3_loose_25 : decode cX3_loose 25 = .ok (.istore_n 2, 1) := dk_61 (dk_at dksX3_loose_1 1 rfl rfl)
theorem dX3_loose_26 : decode cX3_loose 26 = .ok (.iconst 1, 1) := dk_4 (dk_at dksX3_loose_1 2 rfl rfl)
theorem dX3_loose_27 : decode cX3_loose 27 = .ok (.istore_n 3, 1) := dk_62 (dk_at dksX3_loose_1 3 rfl rfl)
theorem dX3_loose_28 : decode cX3_loose 28 = .ok (.iload_n 3, 1) := dk_29 (dk_at dksX3_loose_1 4 rfl rfl)
theorem dX3_loose_29 : decode cX3_loose 29 = .ok (.aload_n 0, 1) := dk_42 (dk_at dksX3_loose_1 5 rfl rfl)
theorem dX3_loose_30 : decode cX3_loose 30 = .ok (.getfield 13, 3) := dk_180 0 13 (dk_at dksX3_loose_1 6 rfl rfl)
theorem dX3_loose_33 : decode cX3_loose 33 = .ok (.iconst 0, 1) := dk_3 (dk_at dksX3_loose_1 9 rfl rfl)
theorem dX3_loose_34 : decode cX3_loose 34 = .ok (.iaload, 1) := dk_46 (dk_at dksX3_loose_1 10 rfl rfl)
theorem dX3_loose_35 : decode cX3_loose 35 = .ok (.if_icmp .gt 73, 3) := dk_163 0 73 (dk_at dksX3_loose_1 11 rfl rfl)
theorem dX3_loose_38 : decode cX3_loose 38 = .ok (.iconst 0, 1) := dk_3 (dk_at dksX3_loose_1 14 rfl rfl)
theorem dX3_loose_39 : decode cX3_loose 39 = .ok (.istore 4, 2) := dk_54 4 (dk_at dksX3_loose_1 15 rfl rfl)
theorem dX3_loose_41 : decode cX3_loose 41 = .ok (.iload 4, 2) := dk_21 4 (dk_at dksX3_loose_1 17 rfl rfl)
theorem dX3_loose_43 : decode cX3_loose 43 = .ok (.aload_n 0, 1) := dk_42 (dk_at dksX3_loose_1 19 rfl rfl)
theorem dX3_loose_44 : decode cX3_loose 44 = .ok (.iload_n 3, 1) := dk_29 (dk_at dksX3_loose_1 20 rfl rfl)
theorem dX3_loose_45 : decode cX3_loose 45 = .ok (.invokevirtual 139, 3) := dk_182 0 139 (dk_at dksX3_loose_1 21 rfl rfl)
theorem dX3_loose_48 : decode cX3_loose 48 = .ok (.if_icmp .ge 54, 3) := dk_162 0 54 (dk_at dksX3_loose_2 0 rfl rfl)
theorem dX3_loose_51 : decode cX3_loose 51 = .ok (.aload_n 0, 1) := dk_42 (dk_at dksX3_loose_2 3 rfl rfl)
theorem dX3_loose_52 : decode cX3_loose 52 = .ok (.iload_n 3, 1) := dk_29 (dk_at dksX3_loose_2 4 rfl rfl)
theorem dX3_loose_53 : decode cX3_loose 53 = .ok (.iload 4, 2) := dk_21 4 (dk_at dksX3_loose_2 5 rfl rfl)
theorem dX3_loose_55 : decode cX3_loose 55 = .ok (.invokevirtual 154, 3) := dk_182 0 154 (dk_at dksX3_loose_2 7 rfl rfl)
theorem dX3_loose_58 : decode cX3_loose 58 = .ok (.ifCond .eq 38, 3) := dk_153 0 38 (dk_at dksX3_loose_2 10 rfl rfl)
theorem dX3_loose_61 : decode cX3_loose 61 = .ok (.aload_n 0, 1) := dk_42 (dk_at dksX3_loose_2 13 rfl rfl)
theorem dX3_loose_62 : decode cX3_loose 62 = .ok (.getfield 37, 3) := dk_180 0 37 (dk_at dksX3_loose_2 14 rfl rfl)
theorem dX3_loose_65 : decode cX3_loose 65 = .ok (.iload_n 3, 1) := dk_29 (dk_at dksX3_loose_2 17 rfl rfl)
theorem dX3_loose_66 : decode cX3_loose 66 = .ok (.iload 4, 2) := dk_21 4 (dk_at dksX3_loose_2 18 rfl rfl)
theorem dX3_loose_68 : decode cX3_loose 68 = .ok (.invokestatic 142, 3) := dk_184 0 142 (dk_at dksX3_loose_2 20 rfl rfl)
theorem dX3_loose_71 : decode cX3_loose 71 = .ok (.iaload, 1) := dk_46 (dk_at dksX3_loose_2 23 rfl rfl)
theorem dX3_loose_72 : decode cX3_loose 72 = .ok (.iconst (-1), 1) := dk_2 (dk_at dksX3_loose_3 0 rfl rfl)
theorem dX3_loose_73 : decode cX3_loose 73 = .ok (.if_icmp .eq 6, 3) := dk_159 0 6 (dk_at dksX3_loose_3 1 rfl rfl)
theorem dX3_loose_76 : decode cX3_loose 76 = .ok (.goto 20, 3) := dk_167 0 20 (dk_at dksX3_loose_3 4 rfl rfl)
theorem dX3_loose_79 : decode cX3_loose 79 = .ok (.iload_n 2, 1) := dk_28 (dk_at dksX3_loose_3 7 rfl rfl)
theorem dX3_loose_80 : decode cX3_loose 80 = .ok (.ifCond .ne 13, 3) := dk_154 0 13 (dk_at dksX3_loose_3 8 rfl rfl)
theorem dX3_loose_83 : decode cX3_loose 83 = .ok (.iload_n 3, 1) := dk_29 (dk_at dksX3_loose_3 11 rfl rfl)
theorem dX3_loose_84 : decode cX3_loose 84 = .ok (.iload 4, 2) := dk_21 4 (dk_at dksX3_loose_3 12 rfl rfl)
theorem dX3_loose_86 : decode cX3_loose 86 = .ok (.invokestatic 142, 3) := dk_184 0 142 (dk_at dksX3_loose_3 14 rfl rfl)
theorem dX3_loose_89 : decode cX3_loose 89 = .ok (.invokestatic 242, 3) := dk_184 0 242 (dk_at dksX3_loose_3 17 rfl rfl)
theorem dX3_loose_92 : decode cX3_loose 92 = .ok (.ireturn, 1) := dk_172 (dk_at dksX3_loose_3 20 rfl rfl)
theorem dX3_loose_93 : decode cX3_loose 93 = .ok (.iinc 2 (-1), 3) := dk_132 2 255 (dk_at dksX3_loose_3 21 rfl rfl)
theorem dX3_loose_96 : decode cX3_loose 96 = .ok (.iinc 4 1, 3) := dk_132 4 1 (dk_at dksX3_loose_4 0 rfl rfl)
theorem dX3_loose_99 : decode cX3_loose 99 = .ok (.goto (-58), 3) := dk_167 255 198 (dk_at dksX3_loose_4 3 rfl rfl)
theorem dX3_loose_102 : decode cX3_loose 102 = .ok (.iinc 3 1, 3) := dk_132 3 1 (dk_at dksX3_loose_4 6 rfl rfl)
theorem dX3_loose_105 : decode cX3_loose 105 = .ok (.goto (-77), 3) := dk_167 255 179 (dk_at dksX3_loose_4 9 rfl rfl)
theorem dX3_loose_108 : decode cX3_loose 108 = .ok (.iconst 0, 1) := dk_3 (dk_at dksX3_loose_4 12 rfl rfl)
theorem dX3_loose_109 : decode cX3_loose 109 = .ok (.ireturn, 1) := dk_172 (dk_at dksX3_loose_4 13 rfl rfl)
abbrev cX3_deepest : ByteArray := prog_21_method_65_code
def yX3_deepest : MethodName := ⟨RX3, "deepest", "()I"⟩
def dkwX3_deepest_2 : List UInt8 := [167, 255, 222, 27, 172]
abbrev dktX3_deepest_2 : List UInt8 := dkwX3_deepest_2 ++ []
def dkwX3_deepest_1 : List UInt8 := [153, 0, 18, 42, 180, 0, 64, 28, 46, 42, 180, 0, 64, 27, 46, 164, 0, 5, 28, 60, 132, 2, 1]
abbrev dktX3_deepest_1 : List UInt8 := dkwX3_deepest_1 ++ dktX3_deepest_2
def dkwX3_deepest_0 : List UInt8 := [42, 3, 181, 0, 1, 42, 182, 0, 174, 3, 60, 4, 61, 28, 42, 180, 0, 13, 3, 46, 163, 0, 30, 27]
abbrev dktX3_deepest_0 : List UInt8 := dkwX3_deepest_0 ++ dktX3_deepest_1
theorem dksX3_deepest_0 : cX3_deepest.data.toList.drop 0 = dktX3_deepest_0 := by decide +kernel
theorem dksX3_deepest_1 : cX3_deepest.data.toList.drop 24 = dktX3_deepest_1 := dk_seg dksX3_deepest_0 24 rfl rfl
theorem dksX3_deepest_2 : cX3_deepest.data.toList.drop 47 = dktX3_deepest_2 := dk_seg dksX3_deepest_1 23 rfl rfl
theorem dX3_deepest_0 : decode cX3_deepest 0 = .ok (.aload_n 0, 1) := dk_42 (dk_at dksX3_deepest_0 0 rfl rfl)
theorem dX3_deepest_1 : decode cX3_deepest 1 = .ok (.iconst 0, 1) := dk_3 (dk_at dksX3_deepest_0 1 rfl rfl)
theorem dX3_deepest_2 : decode cX3_deepest 2 = .ok (.putfield 1, 3) := dk_181 0 1 (dk_at dksX3_deepest_0 2 rfl rfl)
theorem dX3_deepest_5 : decode cX3_deepest 5 = .ok (.aload_n 0, 1) := dk_42 (dk_at dksX3_deepest_0 5 rfl rfl)
theorem dX3_deepest_6 : decode cX3_deepest 6 = .ok (.invokevirtual 174, 3) := dk_182 0 174 (dk_at dksX3_deepest_0 6 rfl rfl)
theorem dX3_deepest_9 : decode cX3_deepest 9 = .ok (.iconst 0, 1) := dk_3 (dk_at dksX3_deepest_0 9 rfl rfl)
theorem dX3_deepest_10 : decode cX3_deepest 10 = .ok (.istore_n 1, 1) := dk_60 (dk_at dksX3_deepest_0 10 rfl rfl)
theorem dX3_deepest_11 : decode cX3_deepest 11 = .ok (.iconst 1, 1) := dk_4 (dk_at dksX3_deepest_0 11 rfl rfl)
theorem dX3_deepest_12 : decode cX3_deepest 12 = .ok (.istore_n 2, 1) := dk_61 (dk_at dksX3_deepest_0 12 rfl rfl)
theorem dX3_deepest_13 : decode cX3_deepest 13 = .ok (.iload_n 2, 1) := dk_28 (dk_at dksX3_deepest_0 13 rfl rfl)
theorem dX3_deepest_14 : decode cX3_deepest 14 = .ok (.aload_n 0, 1) := dk_42 (dk_at dksX3_deepest_0 14 rfl rfl)
theorem dX3_deepest_15 : decode cX3_deepest 15 = .ok (.getfield 13, 3) := dk_180 0 13 (dk_at dksX3_deepest_0 15 rfl rfl)
theorem dX3_deepest_18 : decode cX3_deepest 18 = .ok (.iconst 0, 1) := dk_3 (dk_at dksX3_deepest_0 18 rfl rfl)
theorem dX3_deepest_19 : decode cX3_deepest 19 = .ok (.iaload, 1) := dk_46 (dk_at dksX3_deepest_0 19 rfl rfl)
theorem dX3_deepest_20 : decode cX3_deepest 20 = .ok (.if_icmp .gt 30, 3) := dk_163 0 30 (dk_at dksX3_deepest_0 20 rfl rfl)
theorem dX3_deepest_23 : decode cX3_deepest 23 = .ok (.iload_n 1, 1) := dk_27 (dk_at dksX3_deepest_0 23 rfl rfl)
theorem dX3_deepest_24 : decode cX3_deepest 24 = .ok (.ifCond .eq 18, 3) := dk_153 0 18 (dk_at dksX3_deepest_1 0 rfl rfl)
theorem dX3_deepest_27 : decode cX3_deepest 27 = .ok (.aload_n 0, 1) := dk_42 (dk_at dksX3_deepest_1 3 rfl rfl)
theorem dX3_deepest_28 : decode cX3_deepest 28 = .ok (.getfield 64, 3) := dk_180 0 64 (dk_at dksX3_deepest_1 4 rfl rfl)
theorem dX3_deepest_31 : decode cX3_deepest 31 = .ok (.iload_n 2, 1) := dk_28 (dk_at dksX3_deepest_1 7 rfl rfl)
theorem dX3_deepest_32 : decode cX3_deepest 32 = .ok (.iaload, 1) := dk_46 (dk_at dksX3_deepest_1 8 rfl rfl)
theorem dX3_deepest_33 : decode cX3_deepest 33 = .ok (.aload_n 0, 1) := dk_42 (dk_at dksX3_deepest_1 9 rfl rfl)
theorem dX3_deepest_34 : decode cX3_deepest 34 = .ok (.getfield 64, 3) := dk_180 0 64 (dk_at dksX3_deepest_1 10 rfl rfl)
theorem dX3_deepest_37 : decode cX3_deepest 37 = .ok (.iload_n 1, 1) := dk_27 (dk_at dksX3_deepest_1 13 rfl rfl)
theorem dX3_deepest_38 : decode cX3_deepest 38 = .ok (.iaload, 1) := dk_46 (dk_at dksX3_deepest_1 14 rfl rfl)
theorem dX3_deepest_39 : decode cX3_deepest 39 = .ok (.if_icmp .le 5, 3) := dk_164 0 5 (dk_at dksX3_deepest_1 15 rfl rfl)
theorem dX3_deepest_42 : decode cX3_deepest 42 = .ok (.iload_n 2, 1) := dk_28 (dk_at dksX3_deepest_1 18 rfl rfl)
theorem dX3_deepest_43 : decode cX3_deepest 43 = .ok (.istore_n 1, 1) := dk_60 (dk_at dksX3_deepest_1 19 rfl rfl)
theorem dX3_deepest_44 : decode cX3_deepest 44 = .ok (.iinc 2 1, 3) := dk_132 2 1 (dk_at dksX3_deepest_1 20 rfl rfl)
theorem dX3_deepest_47 : decode cX3_deepest 47 = .ok (.goto (-34), 3) := dk_167 255 222 (dk_at dksX3_deepest_2 0 rfl rfl)
theorem dX3_deepest_50 : decode cX3_deepest 50 = .ok (.iload_n 1, 1) := dk_27 (dk_at dksX3_deepest_2 3 rfl rfl)
theorem dX3_deepest_51 : decode cX3_deepest 51 = .ok (.ireturn, 1) := dk_172 (dk_at dksX3_deepest_2 4 rfl rfl)
abbrev cX3_outline : ByteArray := prog_21_method_66_code
def yX3_outline : MethodName := ⟨RX3, "outline", "(II)I"⟩
def dkwX3_outline_2 : List UInt8 := [172, 132, 3, 255, 132, 4, 1, 167, 255, 211, 42, 4, 181, 0, 1, 3, 172]
abbrev dktX3_outline_2 : List UInt8 := dkwX3_outline_2 ++ []
def dkwX3_outline_1 : List UInt8 := [180, 0, 58, 21, 4, 46, 27, 159, 0, 6, 167, 0, 18, 29, 154, 0, 11, 42, 3, 181, 0, 1, 21, 4]
abbrev dktX3_outline_1 : List UInt8 := dkwX3_outline_1 ++ dktX3_outline_2
def dkwX3_outline_0 : List UInt8 := [42, 182, 0, 174, 28, 62, 3, 54, 4, 21, 4, 42, 180, 0, 145, 162, 0, 42, 29, 155, 0, 38, 42]
abbrev dktX3_outline_0 : List UInt8 := dkwX3_outline_0 ++ dktX3_outline_1
theorem dksX3_outline_0 : cX3_outline.data.toList.drop 0 = dktX3_outline_0 := by decide +kernel
theorem dksX3_outline_1 : cX3_outline.data.toList.drop 23 = dktX3_outline_1 := dk_seg dksX3_outline_0 23 rfl rfl
theorem dksX3_outline_2 : cX3_outline.data.toList.drop 47 = dktX3_outline_2 := dk_seg dksX3_outline_1 24 rfl rfl
theorem dX3_outline_0 : decode cX3_outline 0 = .ok (.aload_n 0, 1) := dk_42 (dk_at dksX3_outline_0 0 rfl rfl)
theorem dX3_outline_1 : decode cX3_outline 1 = .ok (.invokevirtual 174, 3) := dk_182 0 174 (dk_at dksX3_outline_0 1 rfl rfl)
theorem dX3_outline_4 : decode cX3_outline 4 = .ok (.iload_n 2, 1) := dk_28 (dk_at dksX3_outline_0 4 rfl rfl)
theorem dX3_outline_5 : decode cX3_outline 5 = .ok (.istore_n 3, 1) := dk_62 (dk_at dksX3_outline_0 5 rfl rfl)
theorem dX3_outline_6 : decode cX3_outline 6 = .ok (.iconst 0, 1) := dk_3 (dk_at dksX3_outline_0 6 rfl rfl)
theorem dX3_outline_7 : decode cX3_outline 7 = .ok (.istore 4, 2) := dk_54 4 (dk_at dksX3_outline_0 7 rfl rfl)
theorem dX3_outline_9 : decode cX3_outline 9 = .ok (.iload 4, 2) := dk_21 4 (dk_at dksX3_outline_0 9 rfl rfl)
theorem dX3_outline_11 : decode cX3_outline 11 = .ok (.aload_n 0, 1) := dk_42 (dk_at dksX3_outline_0 11 rfl rfl)
theorem dX3_outline_12 : decode cX3_outline 12 = .ok (.getfield 145, 3) := dk_180 0 145 (dk_at dksX3_outline_0 12 rfl rfl)
theorem dX3_outline_15 : decode cX3_outline 15 = .ok (.if_icmp .ge 42, 3) := dk_162 0 42 (dk_at dksX3_outline_0 15 rfl rfl)
theorem dX3_outline_18 : decode cX3_outline 18 = .ok (.iload_n 3, 1) := dk_29 (dk_at dksX3_outline_0 18 rfl rfl)
theorem dX3_outline_19 : decode cX3_outline 19 = .ok (.ifCond .lt 38, 3) := dk_155 0 38 (dk_at dksX3_outline_0 19 rfl rfl)
theorem dX3_outline_22 : decode cX3_outline 22 = .ok (.aload_n 0, 1) := dk_42 (dk_at dksX3_outline_0 22 rfl rfl)
theorem dX3_outline_23 : decode cX3_outline 23 = .ok (.getfield 58, 3) := dk_180 0 58 (dk_at dksX3_outline_1 0 rfl rfl)
theorem dX3_outline_26 : decode cX3_outline 26 = .ok (.iload 4, 2) := dk_21 4 (dk_at dksX3_outline_1 3 rfl rfl)
theorem dX3_outline_28 : decode cX3_outline 28 = .ok (.iaload, 1) := dk_46 (dk_at dksX3_outline_1 5 rfl rfl)
theorem dX3_outline_29 : decode cX3_outline 29 = .ok (.iload_n 1, 1) := dk_27 (dk_at dksX3_outline_1 6 rfl rfl)
theorem dX3_outline_30 : decode cX3_outline 30 = .ok (.if_icmp .eq 6, 3) := dk_159 0 6 (dk_at dksX3_outline_1 7 rfl rfl)
theorem dX3_outline_33 : decode cX3_outline 33 = .ok (.goto 18, 3) := dk_167 0 18 (dk_at dksX3_outline_1 10 rfl rfl)
theorem dX3_outline_36 : decode cX3_outline 36 = .ok (.iload_n 3, 1) := dk_29 (dk_at dksX3_outline_1 13 rfl rfl)
theorem dX3_outline_37 : decode cX3_outline 37 = .ok (.ifCond .ne 11, 3) := dk_154 0 11 (dk_at dksX3_outline_1 14 rfl rfl)
theorem dX3_outline_40 : decode cX3_outline 40 = .ok (.aload_n 0, 1) := dk_42 (dk_at dksX3_outline_1 17 rfl rfl)
theorem dX3_outline_41 : decode cX3_outline 41 = .ok (.iconst 0, 1) := dk_3 (dk_at dksX3_outline_1 18 rfl rfl)
theorem dX3_outline_42 : decode cX3_outline 42 = .ok (.putfield 1, 3) := dk_181 0 1 (dk_at dksX3_outline_1 19 rfl rfl)
theorem dX3_outline_45 : decode cX3_outline 45 = .ok (.iload 4, 2) := dk_21 4 (dk_at dksX3_outline_1 22 rfl rfl)
theorem dX3_outline_47 : decode cX3_outline 47 = .ok (.ireturn, 1) := dk_172 (dk_at dksX3_outline_2 0 rfl rfl)
theorem dX3_outline_48 : decode cX3_outline 48 = .ok (.iinc 3 (-1), 3) := dk_132 3 255 (dk_at dksX3_outline_2 1 rfl rfl)
theorem dX3_outline_51 : decode cX3_outline 51 = .ok (.iinc 4 1, 3) := dk_132 4 1 (dk_at dksX3_outline_2 4 rfl rfl)
theorem dX3_outline_54 : decode cX3_outline 54 = .ok (.goto (-45), 3) := dk_167 255 211 (dk_at dksX3_outline_2 7 rfl rfl)
theorem dX3_outline_57 : decode cX3_outline 57 = .ok (.aload_n 0, 1) := dk_42 (dk_at dksX3_outline_2 10 rfl rfl)
theorem dX3_outline_58 : decode cX3_outline 58 = .ok (.iconst 1, 1) := dk_4 (dk_at dksX3_outline_2 11 rfl rfl)
theorem dX3_outline_59 : decode cX3_outline 59 = .ok (.putfield 1, 3) := dk_181 0 1 (dk_at dksX3_outline_2 12 rfl rfl)
theorem dX3_outline_62 : decode cX3_outline 62 = .ok (.iconst 0, 1) := dk_3 (dk_at dksX3_outline_2 15 rfl rfl)
theorem dX3_outline_63 : decode cX3_outline 63 = .ok (.ireturn, 1) := dk_172 (dk_at dksX3_outline_2 16 rfl rfl)
abbrev cX3_marker : ByteArray := prog_21_method_68_code
def yX3_marker : MethodName := ⟨RX3, "marker", "(I)I"⟩
def dkwX3_marker_1 : List UInt8 := [167, 0, 4, 3, 172]
abbrev dktX3_marker_1 : List UInt8 := dkwX3_marker_1 ++ []
def dkwX3_marker_0 : List UInt8 := [42, 27, 184, 0, 245, 182, 0, 111, 153, 0, 18, 42, 42, 180, 0, 13, 8, 27, 96, 46, 182, 0, 192]
abbrev dktX3_marker_0 : List UInt8 := dkwX3_marker_0 ++ dktX3_marker_1
theorem dksX3_marker_0 : cX3_marker.data.toList.drop 0 = dktX3_marker_0 := by decide +kernel
theorem dksX3_marker_1 : cX3_marker.data.toList.drop 23 = dktX3_marker_1 := dk_seg dksX3_marker_0 23 rfl rfl
theorem dX3_marker_0 : decode cX3_marker 0 = .ok (.aload_n 0, 1) := dk_42 (dk_at dksX3_marker_0 0 rfl rfl)
theorem dX3_marker_1 : decode cX3_marker 1 = .ok (.iload_n 1, 1) := dk_27 (dk_at dksX3_marker_0 1 rfl rfl)
theorem dX3_marker_2 : decode cX3_marker 2 = .ok (.invokestatic 245, 3) := dk_184 0 245 (dk_at dksX3_marker_0 2 rfl rfl)
theorem dX3_marker_5 : decode cX3_marker 5 = .ok (.invokevirtual 111, 3) := dk_182 0 111 (dk_at dksX3_marker_0 5 rfl rfl)
theorem dX3_marker_8 : decode cX3_marker 8 = .ok (.ifCond .eq 18, 3) := dk_153 0 18 (dk_at dksX3_marker_0 8 rfl rfl)
theorem dX3_marker_11 : decode cX3_marker 11 = .ok (.aload_n 0, 1) := dk_42 (dk_at dksX3_marker_0 11 rfl rfl)
theorem dX3_marker_12 : decode cX3_marker 12 = .ok (.aload_n 0, 1) := dk_42 (dk_at dksX3_marker_0 12 rfl rfl)
theorem dX3_marker_13 : decode cX3_marker 13 = .ok (.getfield 13, 3) := dk_180 0 13 (dk_at dksX3_marker_0 13 rfl rfl)
theorem dX3_marker_16 : decode cX3_marker 16 = .ok (.iconst 5, 1) := dk_8 (dk_at dksX3_marker_0 16 rfl rfl)
theorem dX3_marker_17 : decode cX3_marker 17 = .ok (.iload_n 1, 1) := dk_27 (dk_at dksX3_marker_0 17 rfl rfl)
theorem dX3_marker_18 : decode cX3_marker 18 = .ok (.iadd, 1) := dk_96 (dk_at dksX3_marker_0 18 rfl rfl)
theorem dX3_marker_19 : decode cX3_marker 19 = .ok (.iaload, 1) := dk_46 (dk_at dksX3_marker_0 19 rfl rfl)
theorem dX3_marker_20 : decode cX3_marker 20 = .ok (.invokevirtual 192, 3) := dk_182 0 192 (dk_at dksX3_marker_0 20 rfl rfl)
theorem dX3_marker_23 : decode cX3_marker 23 = .ok (.goto 4, 3) := dk_167 0 4 (dk_at dksX3_marker_1 0 rfl rfl)
theorem dX3_marker_26 : decode cX3_marker 26 = .ok (.iconst 0, 1) := dk_3 (dk_at dksX3_marker_1 3 rfl rfl)
theorem dX3_marker_27 : decode cX3_marker 27 = .ok (.ireturn, 1) := dk_172 (dk_at dksX3_marker_1 4 rfl rfl)
abbrev cX3_isMarker : ByteArray := prog_21_method_67_code
def yX3_isMarker : MethodName := ⟨RX3, "isMarker", "(I)Z"⟩
def dkwX3_isMarker_0 : List UInt8 := [26, 3, 16, 9, 184, 0, 95, 172]
abbrev dktX3_isMarker_0 : List UInt8 := dkwX3_isMarker_0 ++ []
theorem dksX3_isMarker_0 : cX3_isMarker.data.toList.drop 0 = dktX3_isMarker_0 := by decide +kernel
theorem dX3_isMarker_0 : decode cX3_isMarker 0 = .ok (.iload_n 0, 1) := dk_26 (dk_at dksX3_isMarker_0 0 rfl rfl)
theorem dX3_isMarker_1 : decode cX3_isMarker 1 = .ok (.iconst 0, 1) := dk_3 (dk_at dksX3_isMarker_0 1 rfl rfl)
theorem dX3_isMarker_2 : decode cX3_isMarker 2 = .ok (.bipush 9, 2) := dk_16 9 (dk_at dksX3_isMarker_0 2 rfl rfl)
theorem dX3_isMarker_4 : decode cX3_isMarker 4 = .ok (.invokestatic 95, 3) := dk_184 0 95 (dk_at dksX3_isMarker_0 4 rfl rfl)
theorem dX3_isMarker_7 : decode cX3_isMarker 7 = .ok (.ireturn, 1) := dk_172 (dk_at dksX3_isMarker_0 7 rfl rfl)
abbrev cX3_nextMarked : ByteArray := prog_21_method_69_code
def yX3_nextMarked : MethodName := ⟨RX3, "nextMarked", "(IZ)I"⟩
def dkwX3_nextMarked_3 : List UInt8 := [153, 0, 6, 21, 5, 172, 132, 4, 1, 167, 255, 211, 3, 172]
abbrev dktX3_nextMarked_3 : List UInt8 := dkwX3_nextMarked_3 ++ []
def dkwX3_nextMarked_2 : List UInt8 := [100, 21, 4, 29, 104, 96, 42, 180, 0, 13, 3, 46, 112, 4, 96, 54, 5, 42, 21, 5, 182, 0, 183]
abbrev dktX3_nextMarked_2 : List UInt8 := dkwX3_nextMarked_2 ++ dktX3_nextMarked_3
def dkwX3_nextMarked_1 : List UInt8 := [180, 0, 13, 3, 46, 4, 100, 62, 4, 54, 4, 21, 4, 42, 180, 0, 13, 3, 46, 163, 0, 40, 27, 4]
abbrev dktX3_nextMarked_1 : List UInt8 := dkwX3_nextMarked_1 ++ dktX3_nextMarked_2
def dkwX3_nextMarked_0 : List UInt8 := [42, 42, 27, 182, 0, 167, 182, 0, 111, 154, 0, 5, 3, 172, 28, 153, 0, 7, 4, 167, 0, 11, 42]
abbrev dktX3_nextMarked_0 : List UInt8 := dkwX3_nextMarked_0 ++ dktX3_nextMarked_1
theorem dksX3_nextMarked_0 : cX3_nextMarked.data.toList.drop 0 = dktX3_nextMarked_0 := by decide +kernel
theorem dksX3_nextMarked_1 : cX3_nextMarked.data.toList.drop 23 = dktX3_nextMarked_1 := dk_seg dksX3_nextMarked_0 23 rfl rfl
theorem dksX3_nextMarked_2 : cX3_nextMarked.data.toList.drop 47 = dktX3_nextMarked_2 := dk_seg dksX3_nextMarked_1 24 rfl rfl
theorem dksX3_nextMarked_3 : cX3_nextMarked.data.toList.drop 70 = dktX3_nextMarked_3 := dk_seg dksX3_nextMarked_2 23 rfl rfl
theorem dX3_nextMarked_0 : decode cX3_nextMarked 0 = .ok (.aload_n 0, 1) := dk_42 (dk_at dksX3_nextMarked_0 0 rfl rfl)
theorem dX3_nextMarked_1 : decode cX3_nextMarked 1 = .ok (.aload_n 0, 1) := dk_42 (dk_at dksX3_nextMarked_0 1 rfl rfl)
theorem dX3_nextMarked_2 : decode cX3_nextMarked 2 = .ok (.iload_n 1, 1) := dk_27 (dk_at dksX3_nextMarked_0 2 rfl rfl)
theorem dX3_nextMarked_3 : decode cX3_nextMarked 3 = .ok (.invokevirtual 167, 3) := dk_182 0 167 (dk_at dksX3_nextMarked_0 3 rfl rfl)
theorem dX3_nextMarked_6 : decode cX3_nextMarked 6 = .ok (.invokevirtual 111, 3) := dk_182 0 111 (dk_at dksX3_nextMarked_0 6 rfl rfl)
theorem dX3_nextMarked_9 : decode cX3_nextMarked 9 = .ok (.ifCond .ne 5, 3) := dk_154 0 5 (dk_at dksX3_nextMarked_0 9 rfl rfl)
theorem dX3_nextMarked_12 : decode cX3_nextMarked 12 = .ok (.iconst 0, 1) := dk_3 (dk_at dksX3_nextMarked_0 12 rfl rfl)
theorem dX3_nextMarked_13 : decode cX3_nextMarked 13 = .ok (.ireturn, 1) := dk_172 (dk_at dksX3_nextMarked_0 13 rfl rfl)
theorem dX3_nextMarked_14 : decode cX3_nextMarked 14 = .ok (.iload_n 2, 1) := dk_28 (dk_at dksX3_nextMarked_0 14 rfl rfl)
theorem dX3_nextMarked_15 : decode cX3_nextMarked 15 = .ok (.ifCond .eq 7, 3) := dk_153 0 7 (dk_at dksX3_nextMarked_0 15 rfl rfl)
theorem dX3_nextMarked_18 : decode cX3_nextMarked 18 = .ok (.iconst 1, 1) := dk_4 (dk_at dksX3_nextMarked_0 18 rfl rfl)
theorem dX3_nextMarked_19 : decode cX3_nextMarked 19 = .ok (.goto 11, 3) := dk_167 0 11 (dk_at dksX3_nextMarked_0 19 rfl rfl)
theorem dX3_nextMarked_22 : decode cX3_nextMarked 22 = .ok (.aload_n 0, 1) := dk_42 (dk_at dksX3_nextMarked_0 22 rfl rfl)
theorem dX3_nextMarked_23 : decode cX3_nextMarked 23 = .ok (.getfield 13, 3) := dk_180 0 13 (dk_at dksX3_nextMarked_1 0 rfl rfl)
theorem dX3_nextMarked_26 : decode cX3_nextMarked 26 = .ok (.iconst 0, 1) := dk_3 (dk_at dksX3_nextMarked_1 3 rfl rfl)
theorem dX3_nextMarked_27 : decode cX3_nextMarked 27 = .ok (.iaload, 1) := dk_46 (dk_at dksX3_nextMarked_1 4 rfl rfl)
theorem dX3_nextMarked_28 : decode cX3_nextMarked 28 = .ok (.iconst 1, 1) := dk_4 (dk_at dksX3_nextMarked_1 5 rfl rfl)
theorem dX3_nextMarked_29 : decode cX3_nextMarked 29 = .ok (.isub, 1) := dk_100 (dk_at dksX3_nextMarked_1 6 rfl rfl)
theorem dX3_nextMarked_30 : decode cX3_nextMarked 30 = .ok (.istore_n 3, 1) := dk_62 (dk_at dksX3_nextMarked_1 7 rfl rfl)
theorem dX3_nextMarked_31 : decode cX3_nextMarked 31 = .ok (.iconst 1, 1) := dk_4 (dk_at dksX3_nextMarked_1 8 rfl rfl)
theorem dX3_nextMarked_32 : decode cX3_nextMarked 32 = .ok (.istore 4, 2) := dk_54 4 (dk_at dksX3_nextMarked_1 9 rfl rfl)
theorem dX3_nextMarked_34 : decode cX3_nextMarked 34 = .ok (.iload 4, 2) := dk_21 4 (dk_at dksX3_nextMarked_1 11 rfl rfl)
theorem dX3_nextMarked_36 : decode cX3_nextMarked 36 = .ok (.aload_n 0, 1) := dk_42 (dk_at dksX3_nextMarked_1 13 rfl rfl)
theorem dX3_nextMarked_37 : decode cX3_nextMarked 37 = .ok (.getfield 13, 3) := dk_180 0 13 (dk_at dksX3_nextMarked_1 14 rfl rfl)
theorem dX3_nextMarked_40 : decode cX3_nextMarked 40 = .ok (.iconst 0, 1) := dk_3 (dk_at dksX3_nextMarked_1 17 rfl rfl)
theorem dX3_nextMarked_41 : decode cX3_nextMarked 41 = .ok (.iaload, 1) := dk_46 (dk_at dksX3_nextMarked_1 18 rfl rfl)
theorem dX3_nextMarked_42 : decode cX3_nextMarked 42 = .ok (.if_icmp .gt 40, 3) := dk_163 0 40 (dk_at dksX3_nextMarked_1 19 rfl rfl)
theorem dX3_nextMarked_45 : decode cX3_nextMarked 45 = .ok (.iload_n 1, 1) := dk_27 (dk_at dksX3_nextMarked_1 22 rfl rfl)
theorem dX3_nextMarked_46 : decode cX3_nextMarked 46 = .ok (.iconst 1, 1) := dk_4 (dk_at dksX3_nextMarked_1 23 rfl rfl)
theorem dX3_nextMarked_47 : decode cX3_nextMarked 47 = .ok (.isub, 1) := dk_100 (dk_at dksX3_nextMarked_2 0 rfl rfl)
theorem dX3_nextMarked_48 : decode cX3_nextMarked 48 = .ok (.iload 4, 2) := dk_21 4 (dk_at dksX3_nextMarked_2 1 rfl rfl)
theorem dX3_nextMarked_50 : decode cX3_nextMarked 50 = .ok (.iload_n 3, 1) := dk_29 (dk_at dksX3_nextMarked_2 3 rfl rfl)
theorem dX3_nextMarked_51 : decode cX3_nextMarked 51 = .ok (.imul, 1) := dk_104 (dk_at dksX3_nextMarked_2 4 rfl rfl)
theorem dX3_nextMarked_52 : decode cX3_nextMarked 52 = .ok (.iadd, 1) := dk_96 (dk_at dksX3_nextMarked_2 5 rfl rfl)
theorem dX3_nextMarked_53 : decode cX3_nextMarked 53 = .ok (.aload_n 0, 1) := dk_42 (dk_at dksX3_nextMarked_2 6 rfl rfl)
theorem dX3_nextMarked_54 : decode cX3_nextMarked 54 = .ok (.getfield 13, 3) := dk_180 0 13 (dk_at dksX3_nextMarked_2 7 rfl rfl)
theorem dX3_nextMarked_57 : decode cX3_nextMarked 57 = .ok (.iconst 0, 1) := dk_3 (dk_at dksX3_nextMarked_2 10 rfl rfl)
theorem dX3_nextMarked_58 : decode cX3_nextMarked 58 = .ok (.iaload, 1) := dk_46 (dk_at dksX3_nextMarked_2 11 rfl rfl)
theorem dX3_nextMarked_59 : decode cX3_nextMarked 59 = .ok (.irem, 1) := dk_112 (dk_at dksX3_nextMarked_2 12 rfl rfl)
theorem dX3_nextMarked_60 : decode cX3_nextMarked 60 = .ok (.iconst 1, 1) := dk_4 (dk_at dksX3_nextMarked_2 13 rfl rfl)
theorem dX3_nextMarked_61 : decode cX3_nextMarked 61 = .ok (.iadd, 1) := dk_96 (dk_at dksX3_nextMarked_2 14 rfl rfl)
theorem dX3_nextMarked_62 : decode cX3_nextMarked 62 = .ok (.istore 5, 2) := dk_54 5 (dk_at dksX3_nextMarked_2 15 rfl rfl)
theorem dX3_nextMarked_64 : decode cX3_nextMarked 64 = .ok (.aload_n 0, 1) := dk_42 (dk_at dksX3_nextMarked_2 17 rfl rfl)
theorem dX3_nextMarked_65 : decode cX3_nextMarked 65 = .ok (.iload 5, 2) := dk_21 5 (dk_at dksX3_nextMarked_2 18 rfl rfl)
theorem dX3_nextMarked_67 : decode cX3_nextMarked 67 = .ok (.invokevirtual 183, 3) := dk_182 0 183 (dk_at dksX3_nextMarked_2 20 rfl rfl)
theorem dX3_nextMarked_70 : decode cX3_nextMarked 70 = .ok (.ifCond .eq 6, 3) := dk_153 0 6 (dk_at dksX3_nextMarked_3 0 rfl rfl)
theorem dX3_nextMarked_73 : decode cX3_nextMarked 73 = .ok (.iload 5, 2) := dk_21 5 (dk_at dksX3_nextMarked_3 3 rfl rfl)
theorem dX3_nextMarked_75 : decode cX3_nextMarked 75 = .ok (.ireturn, 1) := dk_172 (dk_at dksX3_nextMarked_3 5 rfl rfl)
theorem dX3_nextMarked_76 : decode cX3_nextMarked 76 = .ok (.iinc 4 1, 3) := dk_132 4 1 (dk_at dksX3_nextMarked_3 6 rfl rfl)
theorem dX3_nextMarked_79 : decode cX3_nextMarked 79 = .ok (.goto (-45), 3) := dk_167 255 211 (dk_at dksX3_nextMarked_3 9 rfl rfl)
theorem dX3_nextMarked_82 : decode cX3_nextMarked 82 = .ok (.iconst 0, 1) := dk_3 (dk_at dksX3_nextMarked_3 12 rfl rfl)
theorem dX3_nextMarked_83 : decode cX3_nextMarked 83 = .ok (.ireturn, 1) := dk_172 (dk_at dksX3_nextMarked_3 13 rfl rfl)
abbrev cX3_labelled : ByteArray := prog_21_method_76_code
def yX3_labelled : MethodName := ⟨RX3, "labelled", "(I)I"⟩
def dkwX3_labelled_2 : List UInt8 := [42, 28, 42, 28, 182, 0, 189, 27, 182, 0, 209, 153, 0, 5, 28, 172, 132, 2, 1, 167, 255, 214, 3, 172]
abbrev dktX3_labelled_2 : List UInt8 := dkwX3_labelled_2 ++ []
def dkwX3_labelled_1 : List UInt8 := [61, 28, 42, 180, 0, 13, 3, 46, 163, 0, 38, 27, 158, 0, 28, 42, 28, 182, 0, 218, 27, 160, 0, 19]
abbrev dktX3_labelled_1 : List UInt8 := dkwX3_labelled_1 ++ dktX3_labelled_2
def dkwX3_labelled_0 : List UInt8 := [42, 27, 3, 42, 180, 0, 85, 184, 0, 95, 182, 0, 111, 154, 0, 5, 3, 172, 42, 3, 181, 0, 85, 4]
abbrev dktX3_labelled_0 : List UInt8 := dkwX3_labelled_0 ++ dktX3_labelled_1
theorem dksX3_labelled_0 : cX3_labelled.data.toList.drop 0 = dktX3_labelled_0 := by decide +kernel
theorem dksX3_labelled_1 : cX3_labelled.data.toList.drop 24 = dktX3_labelled_1 := dk_seg dksX3_labelled_0 24 rfl rfl
theorem dksX3_labelled_2 : cX3_labelled.data.toList.drop 48 = dktX3_labelled_2 := dk_seg dksX3_labelled_1 24 rfl rfl
theorem dX3_labelled_0 : decode cX3_labelled 0 = .ok (.aload_n 0, 1) := dk_42 (dk_at dksX3_labelled_0 0 rfl rfl)
theorem dX3_labelled_1 : decode cX3_labelled 1 = .ok (.iload_n 1, 1) := dk_27 (dk_at dksX3_labelled_0 1 rfl rfl)
theorem dX3_labelled_2 : decode cX3_labelled 2 = .ok (.iconst 0, 1) := dk_3 (dk_at dksX3_labelled_0 2 rfl rfl)
theorem dX3_labelled_3 : decode cX3_labelled 3 = .ok (.aload_n 0, 1) := dk_42 (dk_at dksX3_labelled_0 3 rfl rfl)
theorem dX3_labelled_4 : decode cX3_labelled 4 = .ok (.getfield 85, 3) := dk_180 0 85 (dk_at dksX3_labelled_0 4 rfl rfl)
theorem dX3_labelled_7 : decode cX3_labelled 7 = .ok (.invokestatic 95, 3) := dk_184 0 95 (dk_at dksX3_labelled_0 7 rfl rfl)
theorem dX3_labelled_10 : decode cX3_labelled 10 = .ok (.invokevirtual 111, 3) := dk_182 0 111 (dk_at dksX3_labelled_0 10 rfl rfl)
theorem dX3_labelled_13 : decode cX3_labelled 13 = .ok (.ifCond .ne 5, 3) := dk_154 0 5 (dk_at dksX3_labelled_0 13 rfl rfl)
theorem dX3_labelled_16 : decode cX3_labelled 16 = .ok (.iconst 0, 1) := dk_3 (dk_at dksX3_labelled_0 16 rfl rfl)
theorem dX3_labelled_17 : decode cX3_labelled 17 = .ok (.ireturn, 1) := dk_172 (dk_at dksX3_labelled_0 17 rfl rfl)
theorem dX3_labelled_18 : decode cX3_labelled 18 = .ok (.aload_n 0, 1) := dk_42 (dk_at dksX3_labelled_0 18 rfl rfl)
theorem dX3_labelled_19 : decode cX3_labelled 19 = .ok (.iconst 0, 1) := dk_3 (dk_at dksX3_labelled_0 19 rfl rfl)
theorem dX3_labelled_20 : decode cX3_labelled 20 = .ok (.putfield 85, 3) := dk_181 0 85 (dk_at dksX3_labelled_0 20 rfl rfl)
theorem dX3_labelled_23 : decode cX3_labelled 23 = .ok (.iconst 1, 1) := dk_4 (dk_at dksX3_labelled_0 23 rfl rfl)
theorem dX3_labelled_24 : decode cX3_labelled 24 = .ok (.istore_n 2, 1) := dk_61 (dk_at dksX3_labelled_1 0 rfl rfl)
theorem dX3_labelled_25 : decode cX3_labelled 25 = .ok (.iload_n 2, 1) := dk_28 (dk_at dksX3_labelled_1 1 rfl rfl)
theorem dX3_labelled_26 : decode cX3_labelled 26 = .ok (.aload_n 0, 1) := dk_42 (dk_at dksX3_labelled_1 2 rfl rfl)
theorem dX3_labelled_27 : decode cX3_labelled 27 = .ok (.getfield 13, 3) := dk_180 0 13 (dk_at dksX3_labelled_1 3 rfl rfl)
theorem dX3_labelled_30 : decode cX3_labelled 30 = .ok (.iconst 0, 1) := dk_3 (dk_at dksX3_labelled_1 6 rfl rfl)
theorem dX3_labelled_31 : decode cX3_labelled 31 = .ok (.iaload, 1) := dk_46 (dk_at dksX3_labelled_1 7 rfl rfl)
theorem dX3_labelled_32 : decode cX3_labelled 32 = .ok (.if_icmp .gt 38, 3) := dk_163 0 38 (dk_at dksX3_labelled_1 8 rfl rfl)
theorem dX3_labelled_35 : decode cX3_labelled 35 = .ok (.iload_n 1, 1) := dk_27 (dk_at dksX3_labelled_1 11 rfl rfl)
theorem dX3_labelled_36 : decode cX3_labelled 36 = .ok (.ifCond .le 28, 3) := dk_158 0 28 (dk_at dksX3_labelled_1 12 rfl rfl)
theorem dX3_labelled_39 : decode cX3_labelled 39 = .ok (.aload_n 0, 1) := dk_42 (dk_at dksX3_labelled_1 15 rfl rfl)
theorem dX3_labelled_40 : decode cX3_labelled 40 = .ok (.iload_n 2, 1) := dk_28 (dk_at dksX3_labelled_1 16 rfl rfl)
theorem dX3_labelled_41 : decode cX3_labelled 41 = .ok (.invokevirtual 218, 3) := dk_182 0 218 (dk_at dksX3_labelled_1 17 rfl rfl)
theorem dX3_labelled_44 : decode cX3_labelled 44 = .ok (.iload_n 1, 1) := dk_27 (dk_at dksX3_labelled_1 20 rfl rfl)
theorem dX3_labelled_45 : decode cX3_labelled 45 = .ok (.if_icmp .ne 19, 3) := dk_160 0 19 (dk_at dksX3_labelled_1 21 rfl rfl)
theorem dX3_labelled_48 : decode cX3_labelled 48 = .ok (.aload_n 0, 1) := dk_42 (dk_at dksX3_labelled_2 0 rfl rfl)
theorem dX3_labelled_49 : decode cX3_labelled 49 = .ok (.iload_n 2, 1) := dk_28 (dk_at dksX3_labelled_2 1 rfl rfl)
theorem dX3_labelled_50 : decode cX3_labelled 50 = .ok (.aload_n 0, 1) := dk_42 (dk_at dksX3_labelled_2 2 rfl rfl)
theorem dX3_labelled_51 : decode cX3_labelled 51 = .ok (.iload_n 2, 1) := dk_28 (dk_at dksX3_labelled_2 3 rfl rfl)
theorem dX3_labelled_52 : decode cX3_labelled 52 = .ok (.invokevirtual 189, 3) := dk_182 0 189 (dk_at dksX3_labelled_2 4 rfl rfl)
theorem dX3_labelled_55 : decode cX3_labelled 55 = .ok (.iload_n 1, 1) := dk_27 (dk_at dksX3_labelled_2 7 rfl rfl)
theorem dX3_labelled_56 : decode cX3_labelled 56 = .ok (.invokevirtual 209, 3) := dk_182 0 209 (dk_at dksX3_labelled_2 8 rfl rfl)
theorem dX3_labelled_59 : decode cX3_labelled 59 = .ok (.ifCond .eq 5, 3) := dk_153 0 5 (dk_at dksX3_labelled_2 11 rfl rfl)
theorem dX3_labelled_62 : decode cX3_labelled 62 = .ok (.iload_n 2, 1) := dk_28 (dk_at dksX3_labelled_2 14 rfl rfl)
theorem dX3_labelled_63 : decode cX3_labelled 63 = .ok (.ireturn, 1) := dk_172 (dk_at dksX3_labelled_2 15 rfl rfl)
theorem dX3_labelled_64 : decode cX3_labelled 64 = .ok (.iinc 2 1, 3) := dk_132 2 1 (dk_at dksX3_labelled_2 16 rfl rfl)
theorem dX3_labelled_67 : decode cX3_labelled 67 = .ok (.goto (-42), 3) := dk_167 255 214 (dk_at dksX3_labelled_2 19 rfl rfl)
theorem dX3_labelled_70 : decode cX3_labelled 70 = .ok (.iconst 0, 1) := dk_3 (dk_at dksX3_labelled_2 22 rfl rfl)
theorem dX3_labelled_71 : decode cX3_labelled 71 = .ok (.ireturn, 1) := dk_172 (dk_at dksX3_labelled_2 23 rfl rfl)
abbrev cX3_labelLength : ByteArray := prog_21_method_77_code
def yX3_labelLength : MethodName := ⟨RX3, "labelLength", "(I)I"⟩
def dkwX3_labelLength_0 : List UInt8 := [42, 42, 27, 182, 0, 167, 182, 0, 111, 153, 0, 11, 42, 27, 182, 0, 218, 167, 0, 4, 3, 172]
abbrev dktX3_labelLength_0 : List UInt8 := dkwX3_labelLength_0 ++ []
theorem dksX3_labelLength_0 : cX3_labelLength.data.toList.drop 0 = dktX3_labelLength_0 := by decide +kernel
theorem dX3_labelLength_0 : decode cX3_labelLength 0 = .ok (.aload_n 0, 1) := dk_42 (dk_at dksX3_labelLength_0 0 rfl rfl)
theorem dX3_labelLength_1 : decode cX3_labelLength 1 = .ok (.aload_n 0, 1) := dk_42 (dk_at dksX3_labelLength_0 1 rfl rfl)
theorem dX3_labelLength_2 : decode cX3_labelLength 2 = .ok (.iload_n 1, 1) := dk_27 (dk_at dksX3_labelLength_0 2 rfl rfl)
theorem dX3_labelLength_3 : decode cX3_labelLength 3 = .ok (.invokevirtual 167, 3) := dk_182 0 167 (dk_at dksX3_labelLength_0 3 rfl rfl)
theorem dX3_labelLength_6 : decode cX3_labelLength 6 = .ok (.invokevirtual 111, 3) := dk_182 0 111 (dk_at dksX3_labelLength_0 6 rfl rfl)
theorem dX3_labelLength_9 : decode cX3_labelLength 9 = .ok (.ifCond .eq 11, 3) := dk_153 0 11 (dk_at dksX3_labelLength_0 9 rfl rfl)
theorem dX3_labelLength_12 : decode cX3_labelLength 12 = .ok (.aload_n 0, 1) := dk_42 (dk_at dksX3_labelLength_0 12 rfl rfl)
theorem dX3_labelLength_13 : decode cX3_labelLength 13 = .ok (.iload_n 1, 1) := dk_27 (dk_at dksX3_labelLength_0 13 rfl rfl)
theorem dX3_labelLength_14 : decode cX3_labelLength 14 = .ok (.invokevirtual 218, 3) := dk_182 0 218 (dk_at dksX3_labelLength_0 14 rfl rfl)
theorem dX3_labelLength_17 : decode cX3_labelLength 17 = .ok (.goto 4, 3) := dk_167 0 4 (dk_at dksX3_labelLength_0 17 rfl rfl)
theorem dX3_labelLength_20 : decode cX3_labelLength 20 = .ok (.iconst 0, 1) := dk_3 (dk_at dksX3_labelLength_0 20 rfl rfl)
theorem dX3_labelLength_21 : decode cX3_labelLength 21 = .ok (.ireturn, 1) := dk_172 (dk_at dksX3_labelLength_0 21 rfl rfl)
abbrev cX3_target : ByteArray := prog_21_method_78_code
def yX3_target : MethodName := ⟨RX3, "target", "(I)I"⟩
def dkwX3_target_0 : List UInt8 := [42, 42, 27, 182, 0, 167, 182, 0, 111, 153, 0, 11, 42, 27, 182, 1, 1, 167, 0, 4, 3, 172]
abbrev dktX3_target_0 : List UInt8 := dkwX3_target_0 ++ []
theorem dksX3_target_0 : cX3_target.data.toList.drop 0 = dktX3_target_0 := by decide +kernel
theorem dX3_target_0 : decode cX3_target 0 = .ok (.aload_n 0, 1) := dk_42 (dk_at dksX3_target_0 0 rfl rfl)
theorem dX3_target_1 : decode cX3_target 1 = .ok (.aload_n 0, 1) := dk_42 (dk_at dksX3_target_0 1 rfl rfl)
theorem dX3_target_2 : decode cX3_target 2 = .ok (.iload_n 1, 1) := dk_27 (dk_at dksX3_target_0 2 rfl rfl)
theorem dX3_target_3 : decode cX3_target 3 = .ok (.invokevirtual 167, 3) := dk_182 0 167 (dk_at dksX3_target_0 3 rfl rfl)
theorem dX3_target_6 : decode cX3_target 6 = .ok (.invokevirtual 111, 3) := dk_182 0 111 (dk_at dksX3_target_0 6 rfl rfl)
theorem dX3_target_9 : decode cX3_target 9 = .ok (.ifCond .eq 11, 3) := dk_153 0 11 (dk_at dksX3_target_0 9 rfl rfl)
theorem dX3_target_12 : decode cX3_target 12 = .ok (.aload_n 0, 1) := dk_42 (dk_at dksX3_target_0 12 rfl rfl)
theorem dX3_target_13 : decode cX3_target 13 = .ok (.iload_n 1, 1) := dk_27 (dk_at dksX3_target_0 13 rfl rfl)
theorem dX3_target_14 : decode cX3_target 14 = .ok (.invokevirtual 257, 3) := dk_182 1 1 (dk_at dksX3_target_0 14 rfl rfl)
theorem dX3_target_17 : decode cX3_target 17 = .ok (.goto 4, 3) := dk_167 0 4 (dk_at dksX3_target_0 17 rfl rfl)
theorem dX3_target_20 : decode cX3_target 20 = .ok (.iconst 0, 1) := dk_3 (dk_at dksX3_target_0 20 rfl rfl)
theorem dX3_target_21 : decode cX3_target 21 = .ok (.ireturn, 1) := dk_172 (dk_at dksX3_target_0 21 rfl rfl)
abbrev cX3_targetOf : ByteArray := prog_21_method_75_code
def yX3_targetOf : MethodName := ⟨RX3, "targetOf", "(I)I"⟩
def dkwX3_targetOf_1 : List UInt8 := [167, 0, 4, 28, 172]
abbrev dktX3_targetOf_1 : List UInt8 := dkwX3_targetOf_1 ++ []
def dkwX3_targetOf_0 : List UInt8 := [42, 27, 182, 0, 221, 2, 160, 0, 5, 3, 172, 42, 27, 182, 0, 254, 61, 28, 154, 0, 7, 2]
abbrev dktX3_targetOf_0 : List UInt8 := dkwX3_targetOf_0 ++ dktX3_targetOf_1
theorem dksX3_targetOf_0 : cX3_targetOf.data.toList.drop 0 = dktX3_targetOf_0 := by decide +kernel
theorem dksX3_targetOf_1 : cX3_targetOf.data.toList.drop 22 = dktX3_targetOf_1 := dk_seg dksX3_targetOf_0 22 rfl rfl
theorem dX3_targetOf_0 : decode cX3_targetOf 0 = .ok (.aload_n 0, 1) := dk_42 (dk_at dksX3_targetOf_0 0 rfl rfl)
theorem dX3_targetOf_1 : decode cX3_targetOf 1 = .ok (.iload_n 1, 1) := dk_27 (dk_at dksX3_targetOf_0 1 rfl rfl)
theorem dX3_targetOf_2 : decode cX3_targetOf 2 = .ok (.invokevirtual 221, 3) := dk_182 0 221 (dk_at dksX3_targetOf_0 2 rfl rfl)
theorem dX3_targetOf_5 : decode cX3_targetOf 5 = .ok (.iconst (-1), 1) := dk_2 (dk_at dksX3_targetOf_0 5 rfl rfl)
theorem dX3_targetOf_6 : decode cX3_targetOf 6 = .ok (.if_icmp .ne 5, 3) := dk_160 0 5 (dk_at dksX3_targetOf_0 6 rfl rfl)
theorem dX3_targetOf_9 : decode cX3_targetOf 9 = .ok (.iconst 0, 1) := dk_3 (dk_at dksX3_targetOf_0 9 rfl rfl)
theorem dX3_targetOf_10 : decode cX3_targetOf 10 = .ok (.ireturn, 1) := dk_172 (dk_at dksX3_targetOf_0 10 rfl rfl)
theorem dX3_targetOf_11 : decode cX3_targetOf 11 = .ok (.aload_n 0, 1) := dk_42 (dk_at dksX3_targetOf_0 11 rfl rfl)
theorem dX3_targetOf_12 : decode cX3_targetOf 12 = .ok (.iload_n 1, 1) := dk_27 (dk_at dksX3_targetOf_0 12 rfl rfl)
theorem dX3_targetOf_13 : decode cX3_targetOf 13 = .ok (.invokevirtual 254, 3) := dk_182 0 254 (dk_at dksX3_targetOf_0 13 rfl rfl)
theorem dX3_targetOf_16 : decode cX3_targetOf 16 = .ok (.istore_n 2, 1) := dk_61 (dk_at dksX3_targetOf_0 16 rfl rfl)
theorem dX3_targetOf_17 : decode cX3_targetOf 17 = .ok (.iload_n 2, 1) := dk_28 (dk_at dksX3_targetOf_0 17 rfl rfl)
theorem dX3_targetOf_18 : decode cX3_targetOf 18 = .ok (.ifCond .ne 7, 3) := dk_154 0 7 (dk_at dksX3_targetOf_0 18 rfl rfl)
theorem dX3_targetOf_21 : decode cX3_targetOf 21 = .ok (.iconst (-1), 1) := dk_2 (dk_at dksX3_targetOf_0 21 rfl rfl)
theorem dX3_targetOf_22 : decode cX3_targetOf 22 = .ok (.goto 4, 3) := dk_167 0 4 (dk_at dksX3_targetOf_1 0 rfl rfl)
theorem dX3_targetOf_25 : decode cX3_targetOf 25 = .ok (.iload_n 2, 1) := dk_28 (dk_at dksX3_targetOf_1 3 rfl rfl)
theorem dX3_targetOf_26 : decode cX3_targetOf 26 = .ok (.ireturn, 1) := dk_172 (dk_at dksX3_targetOf_1 4 rfl rfl)
abbrev cX3_leadsTo : ByteArray := prog_21_method_74_code
def yX3_leadsTo : MethodName := ⟨RX3, "leadsTo", "(I)I"⟩
def dkwX3_leadsTo_4 : List UInt8 := [132, 6, 1, 167, 255, 208, 21, 5, 153, 0, 6, 21, 4, 172, 132, 4, 1, 167, 255, 163, 3, 172]
abbrev dktX3_leadsTo_4 : List UInt8 := dkwX3_leadsTo_4 ++ []
def dkwX3_leadsTo_3 : List UInt8 := [182, 0, 133, 42, 27, 28, 21, 6, 96, 182, 0, 133, 160, 0, 7, 4, 167, 0, 4, 3, 54, 5]
abbrev dktX3_leadsTo_3 : List UInt8 := dkwX3_leadsTo_3 ++ dktX3_leadsTo_4
def dkwX3_leadsTo_2 : List UInt8 := [21, 6, 29, 162, 0, 48, 21, 5, 153, 0, 43, 42, 21, 4, 42, 21, 4, 182, 0, 189, 21, 6, 96]
abbrev dktX3_leadsTo_2 : List UInt8 := dkwX3_leadsTo_2 ++ dktX3_leadsTo_3
def dkwX3_leadsTo_1 : List UInt8 := [163, 0, 88, 42, 21, 4, 182, 0, 218, 29, 160, 0, 7, 4, 167, 0, 4, 3, 54, 5, 3, 54, 6]
abbrev dktX3_leadsTo_1 : List UInt8 := dkwX3_leadsTo_1 ++ dktX3_leadsTo_2
def dkwX3_leadsTo_0 : List UInt8 := [42, 27, 182, 0, 221, 61, 42, 27, 182, 0, 251, 62, 4, 54, 4, 21, 4, 42, 180, 0, 13, 3, 46]
abbrev dktX3_leadsTo_0 : List UInt8 := dkwX3_leadsTo_0 ++ dktX3_leadsTo_1
theorem dksX3_leadsTo_0 : cX3_leadsTo.data.toList.drop 0 = dktX3_leadsTo_0 := by decide +kernel
theorem dksX3_leadsTo_1 : cX3_leadsTo.data.toList.drop 23 = dktX3_leadsTo_1 := dk_seg dksX3_leadsTo_0 23 rfl rfl
theorem dksX3_leadsTo_2 : cX3_leadsTo.data.toList.drop 46 = dktX3_leadsTo_2 := dk_seg dksX3_leadsTo_1 23 rfl rfl
theorem dksX3_leadsTo_3 : cX3_leadsTo.data.toList.drop 69 = dktX3_leadsTo_3 := dk_seg dksX3_leadsTo_2 23 rfl rfl
theorem dksX3_leadsTo_4 : cX3_leadsTo.data.toList.drop 91 = dktX3_leadsTo_4 := dk_seg dksX3_leadsTo_3 22 rfl rfl
theorem dX3_leadsTo_0 : decode cX3_leadsTo 0 = .ok (.aload_n 0, 1) := dk_42 (dk_at dksX3_leadsTo_0 0 rfl rfl)
theorem dX3_leadsTo_1 : decode cX3_leadsTo 1 = .ok (.iload_n 1, 1) := dk_27 (dk_at dksX3_leadsTo_0 1 rfl rfl)
theorem dX3_leadsTo_2 : decode cX3_leadsTo 2 = .ok (.invokevirtual 221, 3) := dk_182 0 221 (dk_at dksX3_leadsTo_0 2 rfl rfl)
theorem dX3_leadsTo_5 : decode cX3_leadsTo 5 = .ok (.istore_n 2, 1) := dk_61 (dk_at dksX3_leadsTo_0 5 rfl rfl)
theorem dX3_leadsTo_6 : decode cX3_leadsTo 6 = .ok (.aload_n 0, 1) := dk_42 (dk_at dksX3_leadsTo_0 6 rfl rfl)
theorem dX3_leadsTo_7 : decode cX3_leadsTo 7 = .ok (.iload_n 1, 1) := dk_27 (dk_at dksX3_leadsTo_0 7 rfl rfl)
theorem dX3_leadsTo_8 : decode cX3_leadsTo 8 = .ok (.invokevirtual 251, 3) := dk_182 0 251 (dk_at dksX3_leadsTo_0 8 rfl rfl)
theorem dX3_leadsTo_11 : decode cX3_leadsTo 11 = .ok (.istore_n 3, 1) := dk_62 (dk_at dksX3_leadsTo_0 11 rfl rfl)
theorem dX3_leadsTo_12 : decode cX3_leadsTo 12 = .ok (.iconst 1, 1) := dk_4 (dk_at dksX3_leadsTo_0 12 rfl rfl)
theorem dX3_leadsTo_13 : decode cX3_leadsTo 13 = .ok (.istore 4, 2) := dk_54 4 (dk_at dksX3_leadsTo_0 13 rfl rfl)
theorem dX3_leadsTo_15 : decode cX3_leadsTo 15 = .ok (.iload 4, 2) := dk_21 4 (dk_at dksX3_leadsTo_0 15 rfl rfl)
theorem dX3_leadsTo_17 : decode cX3_leadsTo 17 = .ok (.aload_n 0, 1) := dk_42 (dk_at dksX3_leadsTo_0 17 rfl rfl)
theorem dX3_leadsTo_18 : decode cX3_leadsTo 18 = .ok (.getfield 13, 3) := dk_180 0 13 (dk_at dksX3_leadsTo_0 18 rfl rfl)
theorem dX3_leadsTo_21 : decode cX3_leadsTo 21 = .ok (.iconst 0, 1) := dk_3 (dk_at dksX3_leadsTo_0 21 rfl rfl)
theorem dX3_leadsTo_22 : decode cX3_leadsTo 22 = .ok (.iaload, 1) := dk_46 (dk_at dksX3_leadsTo_0 22 rfl rfl)
theorem dX3_leadsTo_23 : decode cX3_leadsTo 23 = .ok (.if_icmp .gt 88, 3) := dk_163 0 88 (dk_at dksX3_leadsTo_1 0 rfl rfl)
theorem dX3_leadsTo_26 : decode cX3_leadsTo 26 = .ok (.aload_n 0, 1) := dk_42 (dk_at dksX3_leadsTo_1 3 rfl rfl)
theorem dX3_leadsTo_27 : decode cX3_leadsTo 27 = .ok (.iload 4, 2) := dk_21 4 (dk_at dksX3_leadsTo_1 4 rfl rfl)
theorem dX3_leadsTo_29 : decode cX3_leadsTo 29 = .ok (.invokevirtual 218, 3) := dk_182 0 218 (dk_at dksX3_leadsTo_1 6 rfl rfl)
theorem dX3_leadsTo_32 : decode cX3_leadsTo 32 = .ok (.iload_n 3, 1) := dk_29 (dk_at dksX3_leadsTo_1 9 rfl rfl)
theorem dX3_leadsTo_33 : decode cX3_leadsTo 33 = .ok (.if_icmp .ne 7, 3) := dk_160 0 7 (dk_at dksX3_leadsTo_1 10 rfl rfl)
theorem dX3_leadsTo_36 : decode cX3_leadsTo 36 = .ok (.iconst 1, 1) := dk_4 (dk_at dksX3_leadsTo_1 13 rfl rfl)
theorem dX3_leadsTo_37 : decode cX3_leadsTo 37 = .ok (.goto 4, 3) := dk_167 0 4 (dk_at dksX3_leadsTo_1 14 rfl rfl)
theorem dX3_leadsTo_40 : decode cX3_leadsTo 40 = .ok (.iconst 0, 1) := dk_3 (dk_at dksX3_leadsTo_1 17 rfl rfl)
theorem dX3_leadsTo_41 : decode cX3_leadsTo 41 = .ok (.istore 5, 2) := dk_54 5 (dk_at dksX3_leadsTo_1 18 rfl rfl)
theorem dX3_leadsTo_43 : decode cX3_leadsTo 43 = .ok (.iconst 0, 1) := dk_3 (dk_at dksX3_leadsTo_1 20 rfl rfl)
theorem dX3_leadsTo_44 : decode cX3_leadsTo 44 = .ok (.istore 6, 2) := dk_54 6 (dk_at dksX3_leadsTo_1 21 rfl rfl)
theorem dX3_leadsTo_46 : decode cX3_leadsTo 46 = .ok (.iload 6, 2) := dk_21 6 (dk_at dksX3_leadsTo_2 0 rfl rfl)
theorem dX3_leadsTo_48 : decode cX3_leadsTo 48 = .ok (.iload_n 3, 1) := dk_29 (dk_at dksX3_leadsTo_2 2 rfl rfl)
theorem dX3_leadsTo_49 : decode cX3_leadsTo 49 = .ok (.if_icmp .ge 48, 3) := dk_162 0 48 (dk_at dksX3_leadsTo_2 3 rfl rfl)
theorem dX3_leadsTo_52 : decode cX3_leadsTo 52 = .ok (.iload 5, 2) := dk_21 5 (dk_at dksX3_leadsTo_2 6 rfl rfl)
theorem dX3_leadsTo_54 : decode cX3_leadsTo 54 = .ok (.ifCond .eq 43, 3) := dk_153 0 43 (dk_at dksX3_leadsTo_2 8 rfl rfl)
theorem dX3_leadsTo_57 : decode cX3_leadsTo 57 = .ok (.aload_n 0, 1) := dk_42 (dk_at dksX3_leadsTo_2 11 rfl rfl)
theorem dX3_leadsTo_58 : decode cX3_leadsTo 58 = .ok (.iload 4, 2) := dk_21 4 (dk_at dksX3_leadsTo_2 12 rfl rfl)
theorem dX3_leadsTo_60 : decode cX3_leadsTo 60 = .ok (.aload_n 0, 1) := dk_42 (dk_at dksX3_leadsTo_2 14 rfl rfl)
theorem dX3_leadsTo_61 : decode cX3_leadsTo 61 = .ok (.iload 4, 2) := dk_21 4 (dk_at dksX3_leadsTo_2 15 rfl rfl)
theorem dX3_leadsTo_63 : decode cX3_leadsTo 63 = .ok (.invokevirtual 189, 3) := dk_182 0 189 (dk_at dksX3_leadsTo_2 17 rfl rfl)
theorem dX3_leadsTo_66 : decode cX3_leadsTo 66 = .ok (.iload 6, 2) := dk_21 6 (dk_at dksX3_leadsTo_2 20 rfl rfl)
theorem dX3_leadsTo_68 : decode cX3_leadsTo 68 = .ok (.iadd, 1) := dk_96 (dk_at dksX3_leadsTo_2 22 rfl rfl)
theorem dX3_leadsTo_69 : decode cX3_leadsTo 69 = .ok (.invokevirtual 133, 3) := dk_182 0 133 (dk_at dksX3_leadsTo_3 0 rfl rfl)
theorem dX3_leadsTo_72 : decode cX3_leadsTo 72 = .ok (.aload_n 0, 1) := dk_42 (dk_at dksX3_leadsTo_3 3 rfl rfl)
theorem dX3_leadsTo_73 : decode cX3_leadsTo 73 = .ok (.iload_n 1, 1) := dk_27 (dk_at dksX3_leadsTo_3 4 rfl rfl)
theorem dX3_leadsTo_74 : decode cX3_leadsTo 74 = .ok (.iload_n 2, 1) := dk_28 (dk_at dksX3_leadsTo_3 5 rfl rfl)
theorem dX3_leadsTo_75 : decode cX3_leadsTo 75 = .ok (.iload 6, 2) := dk_21 6 (dk_at dksX3_leadsTo_3 6 rfl rfl)
theorem dX3_leadsTo_77 : decode cX3_leadsTo 77 = .ok (.iadd, 1) := dk_96 (dk_at dksX3_leadsTo_3 8 rfl rfl)
theorem dX3_leadsTo_78 : decode cX3_leadsTo 78 = .ok (.invokevirtual 133, 3) := dk_182 0 133 (dk_at dksX3_leadsTo_3 9 rfl rfl)
theorem dX3_leadsTo_81 : decode cX3_leadsTo 81 = .ok (.if_icmp .ne 7, 3) := dk_160 0 7 (dk_at dksX3_leadsTo_3 12 rfl rfl)
theorem dX3_leadsTo_84 : decode cX3_leadsTo 84 = .ok (.iconst 1, 1) := dk_4 (dk_at dksX3_leadsTo_3 15 rfl rfl)
theorem dX3_leadsTo_85 : decode cX3_leadsTo 85 = .ok (.goto 4, 3) := dk_167 0 4 (dk_at dksX3_leadsTo_3 16 rfl rfl)
theorem dX3_leadsTo_88 : decode cX3_leadsTo 88 = .ok (.iconst 0, 1) := dk_3 (dk_at dksX3_leadsTo_3 19 rfl rfl)
theorem dX3_leadsTo_89 : decode cX3_leadsTo 89 = .ok (.istore 5, 2) := dk_54 5 (dk_at dksX3_leadsTo_3 20 rfl rfl)
theorem dX3_leadsTo_91 : decode cX3_leadsTo 91 = .ok (.iinc 6 1, 3) := dk_132 6 1 (dk_at dksX3_leadsTo_4 0 rfl rfl)
theorem dX3_leadsTo_94 : decode cX3_leadsTo 94 = .ok (.goto (-48), 3) := dk_167 255 208 (dk_at dksX3_leadsTo_4 3 rfl rfl)
theorem dX3_leadsTo_97 : decode cX3_leadsTo 97 = .ok (.iload 5, 2) := dk_21 5 (dk_at dksX3_leadsTo_4 6 rfl rfl)
theorem dX3_leadsTo_99 : decode cX3_leadsTo 99 = .ok (.ifCond .eq 6, 3) := dk_153 0 6 (dk_at dksX3_leadsTo_4 8 rfl rfl)
theorem dX3_leadsTo_102 : decode cX3_leadsTo 102 = .ok (.iload 4, 2) := dk_21 4 (dk_at dksX3_leadsTo_4 11 rfl rfl)
theorem dX3_leadsTo_104 : decode cX3_leadsTo 104 = .ok (.ireturn, 1) := dk_172 (dk_at dksX3_leadsTo_4 13 rfl rfl)
theorem dX3_leadsTo_105 : decode cX3_leadsTo 105 = .ok (.iinc 4 1, 3) := dk_132 4 1 (dk_at dksX3_leadsTo_4 14 rfl rfl)
theorem dX3_leadsTo_108 : decode cX3_leadsTo 108 = .ok (.goto (-93), 3) := dk_167 255 163 (dk_at dksX3_leadsTo_4 17 rfl rfl)
theorem dX3_leadsTo_111 : decode cX3_leadsTo 111 = .ok (.iconst 0, 1) := dk_3 (dk_at dksX3_leadsTo_4 20 rfl rfl)
theorem dX3_leadsTo_112 : decode cX3_leadsTo 112 = .ok (.ireturn, 1) := dk_172 (dk_at dksX3_leadsTo_4 21 rfl rfl)
abbrev cX3_referenceLength : ByteArray := prog_21_method_73_code
def yX3_referenceLength : MethodName := ⟨RX3, "referenceLength", "(I)I"⟩
def dkwX3_referenceLength_1 : List UInt8 := [184, 0, 248, 153, 0, 9, 132, 3, 1, 167, 255, 232, 29, 28, 100, 172]
abbrev dktX3_referenceLength_1 : List UInt8 := dkwX3_referenceLength_1 ++ []
def dkwX3_referenceLength_0 : List UInt8 := [42, 27, 182, 0, 221, 61, 28, 62, 29, 42, 27, 182, 0, 139, 162, 0, 21, 42, 27, 29, 182, 0, 133]
abbrev dktX3_referenceLength_0 : List UInt8 := dkwX3_referenceLength_0 ++ dktX3_referenceLength_1
theorem dksX3_referenceLength_0 : cX3_referenceLength.data.toList.drop 0 = dktX3_referenceLength_0 := by decide +kernel
theorem dksX3_referenceLength_1 : cX3_referenceLength.data.toList.drop 23 = dktX3_referenceLength_1 := dk_seg dksX3_referenceLength_0 23 rfl rfl
theorem dX3_referenceLength_0 : decode cX3_referenceLength 0 = .ok (.aload_n 0, 1) := dk_42 (dk_at dksX3_referenceLength_0 0 rfl rfl)
theorem dX3_referenceLength_1 : decode cX3_referenceLength 1 = .ok (.iload_n 1, 1) := dk_27 (dk_at dksX3_referenceLength_0 1 rfl rfl)
theorem dX3_referenceLength_2 : decode cX3_referenceLength 2 = .ok (.invokevirtual 221, 3) := dk_182 0 221 (dk_at dksX3_referenceLength_0 2 rfl rfl)
theorem dX3_referenceLength_5 : decode cX3_referenceLength 5 = .ok (.istore_n 2, 1) := dk_61 (dk_at dksX3_referenceLength_0 5 rfl rfl)
theorem dX3_referenceLength_6 : decode cX3_referenceLength 6 = .ok (.iload_n 2, 1) := dk_28 (dk_at dksX3_referenceLength_0 6 rfl rfl)
theorem dX3_referenceLength_7 : decode cX3_referenceLength 7 = .ok (.istore_n 3, 1) := dk_62 (dk_at dksX3_referenceLength_0 7 rfl rfl)
theorem dX3_referenceLength_8 : decode cX3_referenceLength 8 = .ok (.iload_n 3, 1) := dk_29 (dk_at dksX3_referenceLength_0 8 rfl rfl)
theorem dX3_referenceLength_9 : decode cX3_referenceLength 9 = .ok (.aload_n 0, 1) := dk_42 (dk_at dksX3_referenceLength_0 9 rfl rfl)
theorem dX3_referenceLength_10 : decode cX3_referenceLength 10 = .ok (.iload_n 1, 1) := dk_27 (dk_at dksX3_referenceLength_0 10 rfl rfl)
theorem dX3_referenceLength_11 : decode cX3_referenceLength 11 = .ok (.invokevirtual 139, 3) := dk_182 0 139 (dk_at dksX3_referenceLength_0 11 rfl rfl)
theorem dX3_referenceLength_14 : decode cX3_referenceLength 14 = .ok (.if_icmp .ge 21, 3) := dk_162 0 21 (dk_at dksX3_referenceLength_0 14 rfl rfl)
theorem dX3_referenceLength_17 : decode cX3_referenceLength 17 = .ok (.aload_n 0, 1) := dk_42 (dk_at dksX3_referenceLength_0 17 rfl rfl)
theorem dX3_referenceLength_18 : decode cX3_referenceLength 18 = .ok (.iload_n 1, 1) := dk_27 (dk_at dksX3_referenceLength_0 18 rfl rfl)
theorem dX3_referenceLength_19 : decode cX3_referenceLength 19 = .ok (.iload_n 3, 1) := dk_29 (dk_at dksX3_referenceLength_0 19 rfl rfl)
theorem dX3_referenceLength_20 : decode cX3_referenceLength 20 = .ok (.invokevirtual 133, 3) := dk_182 0 133 (dk_at dksX3_referenceLength_0 20 rfl rfl)
theorem dX3_referenceLength_23 : decode cX3_referenceLength 23 = .ok (.invokestatic 248, 3) := dk_184 0 248 (dk_at dksX3_referenceLength_1 0 rfl rfl)
theorem dX3_referenceLength_26 : decode cX3_referenceLength 26 = .ok (.ifCond .eq 9, 3) := dk_153 0 9 (dk_at dksX3_referenceLength_1 3 rfl rfl)
theorem dX3_referenceLength_29 : decode cX3_referenceLength 29 = .ok (.iinc 3 1, 3) := dk_132 3 1 (dk_at dksX3_referenceLength_1 6 rfl rfl)
theorem dX3_referenceLength_32 : decode cX3_referenceLength 32 = .ok (.goto (-24), 3) := dk_167 255 232 (dk_at dksX3_referenceLength_1 9 rfl rfl)
theorem dX3_referenceLength_35 : decode cX3_referenceLength 35 = .ok (.iload_n 3, 1) := dk_29 (dk_at dksX3_referenceLength_1 12 rfl rfl)
theorem dX3_referenceLength_36 : decode cX3_referenceLength 36 = .ok (.iload_n 2, 1) := dk_28 (dk_at dksX3_referenceLength_1 13 rfl rfl)
theorem dX3_referenceLength_37 : decode cX3_referenceLength 37 = .ok (.isub, 1) := dk_100 (dk_at dksX3_referenceLength_1 14 rfl rfl)
theorem dX3_referenceLength_38 : decode cX3_referenceLength 38 = .ok (.ireturn, 1) := dk_172 (dk_at dksX3_referenceLength_1 15 rfl rfl)
abbrev cX3_referrers : ByteArray := prog_21_method_79_code
def yX3_referrers : MethodName := ⟨RX3, "referrers", "(I)I"⟩
def dkwX3_referrers_2 : List UInt8 := [167, 255, 226, 28, 172]
abbrev dktX3_referrers_2 : List UInt8 := dkwX3_referrers_2 ++ []
def dkwX3_referrers_1 : List UInt8 := [46, 163, 0, 26, 28, 42, 29, 182, 1, 1, 27, 160, 0, 7, 4, 167, 0, 4, 3, 96, 61, 132, 3, 1]
abbrev dktX3_referrers_1 : List UInt8 := dkwX3_referrers_1 ++ dktX3_referrers_2
def dkwX3_referrers_0 : List UInt8 := [42, 42, 27, 182, 0, 167, 182, 0, 111, 154, 0, 5, 3, 172, 3, 61, 4, 62, 29, 42, 180, 0, 13, 3]
abbrev dktX3_referrers_0 : List UInt8 := dkwX3_referrers_0 ++ dktX3_referrers_1
theorem dksX3_referrers_0 : cX3_referrers.data.toList.drop 0 = dktX3_referrers_0 := by decide +kernel
theorem dksX3_referrers_1 : cX3_referrers.data.toList.drop 24 = dktX3_referrers_1 := dk_seg dksX3_referrers_0 24 rfl rfl
theorem dksX3_referrers_2 : cX3_referrers.data.toList.drop 48 = dktX3_referrers_2 := dk_seg dksX3_referrers_1 24 rfl rfl
theorem dX3_referrers_0 : decode cX3_referrers 0 = .ok (.aload_n 0, 1) := dk_42 (dk_at dksX3_referrers_0 0 rfl rfl)
theorem dX3_referrers_1 : decode cX3_referrers 1 = .ok (.aload_n 0, 1) := dk_42 (dk_at dksX3_referrers_0 1 rfl rfl)
theorem dX3_referrers_2 : decode cX3_referrers 2 = .ok (.iload_n 1, 1) := dk_27 (dk_at dksX3_referrers_0 2 rfl rfl)
theorem dX3_referrers_3 : decode cX3_referrers 3 = .ok (.invokevirtual 167, 3) := dk_182 0 167 (dk_at dksX3_referrers_0 3 rfl rfl)
theorem dX3_referrers_6 : decode cX3_referrers 6 = .ok (.invokevirtual 111, 3) := dk_182 0 111 (dk_at dksX3_referrers_0 6 rfl rfl)
theorem dX3_referrers_9 : decode cX3_referrers 9 = .ok (.ifCond .ne 5, 3) := dk_154 0 5 (dk_at dksX3_referrers_0 9 rfl rfl)
theorem dX3_referrers_12 : decode cX3_referrers 12 = .ok (.iconst 0, 1) := dk_3 (dk_at dksX3_referrers_0 12 rfl rfl)
theorem dX3_referrers_13 : decode cX3_referrers 13 = .ok (.ireturn, 1) := dk_172 (dk_at dksX3_referrers_0 13 rfl rfl)
theorem dX3_referrers_14 : decode cX3_referrers 14 = .ok (.iconst 0, 1) := dk_3 (dk_at dksX3_referrers_0 14 rfl rfl)
theorem dX3_referrers_15 : decode cX3_referrers 15 = .ok (.istore_n 2, 1) := dk_61 (dk_at dksX3_referrers_0 15 rfl rfl)
theorem dX3_referrers_16 : decode cX3_referrers 16 = .ok (.iconst 1, 1) := dk_4 (dk_at dksX3_referrers_0 16 rfl rfl)
theorem dX3_referrers_17 : decode cX3_referrers 17 = .ok (.istore_n 3, 1) := dk_62 (dk_at dksX3_referrers_0 17 rfl rfl)
theorem dX3_referrers_18 : decode cX3_referrers 18 = .ok (.iload_n 3, 1) := dk_29 (dk_at dksX3_referrers_0 18 rfl rfl)
theorem dX3_referrers_19 : decode cX3_referrers 19 = .ok (.aload_n 0, 1) := dk_42 (dk_at dksX3_referrers_0 19 rfl rfl)
theorem dX3_referrers_20 : decode cX3_referrers 20 = .ok (.getfield 13, 3) := dk_180 0 13 (dk_at dksX3_referrers_0 20 rfl rfl)
theorem dX3_referrers_23 : decode cX3_referrers 23 = .ok (.iconst 0, 1) := dk_3 (dk_at dksX3_referrers_0 23 rfl rfl)
theorem dX3_referrers_24 : decode cX3_referrers 24 = .ok (.iaload, 1) := dk_46 (dk_at dksX3_referrers_1 0 rfl rfl)
theorem dX3_referrers_25 : decode cX3_referrers 25 = .ok (.if_icmp .gt 26, 3) := dk_163 0 26 (dk_at dksX3_referrers_1 1 rfl rfl)
theorem dX3_referrers_28 : decode cX3_referrers 28 = .ok (.iload_n 2, 1) := dk_28 (dk_at dksX3_referrers_1 4 rfl rfl)
theorem dX3_referrers_29 : decode cX3_referrers 29 = .ok (.aload_n 0, 1) := dk_42 (dk_at dksX3_referrers_1 5 rfl rfl)
theorem dX3_referrers_30 : decode cX3_referrers 30 = .ok (.iload_n 3, 1) := dk_29 (dk_at dksX3_referrers_1 6 rfl rfl)
theorem dX3_referrers_31 : decode cX3_referrers 31 = .ok (.invokevirtual 257, 3) := dk_182 1 1 (dk_at dksX3_referrers_1 7 rfl rfl)
theorem dX3_referrers_34 : decode cX3_referrers 34 = .ok (.iload_n 1, 1) := dk_27 (dk_at dksX3_referrers_1 10 rfl rfl)
theorem dX3_referrers_35 : decode cX3_referrers 35 = .ok (.if_icmp .ne 7, 3) := dk_160 0 7 (dk_at dksX3_referrers_1 11 rfl rfl)
theorem dX3_referrers_38 : decode cX3_referrers 38 = .ok (.iconst 1, 1) := dk_4 (dk_at dksX3_referrers_1 14 rfl rfl)
theorem dX3_referrers_39 : decode cX3_referrers 39 = .ok (.goto 4, 3) := dk_167 0 4 (dk_at dksX3_referrers_1 15 rfl rfl)
theorem dX3_referrers_42 : decode cX3_referrers 42 = .ok (.iconst 0, 1) := dk_3 (dk_at dksX3_referrers_1 18 rfl rfl)
theorem dX3_referrers_43 : decode cX3_referrers 43 = .ok (.iadd, 1) := dk_96 (dk_at dksX3_referrers_1 19 rfl rfl)
theorem dX3_referrers_44 : decode cX3_referrers 44 = .ok (.istore_n 2, 1) := dk_61 (dk_at dksX3_referrers_1 20 rfl rfl)
theorem dX3_referrers_45 : decode cX3_referrers 45 = .ok (.iinc 3 1, 3) := dk_132 3 1 (dk_at dksX3_referrers_1 21 rfl rfl)
theorem dX3_referrers_48 : decode cX3_referrers 48 = .ok (.goto (-30), 3) := dk_167 255 226 (dk_at dksX3_referrers_2 0 rfl rfl)
theorem dX3_referrers_51 : decode cX3_referrers 51 = .ok (.iload_n 2, 1) := dk_28 (dk_at dksX3_referrers_2 3 rfl rfl)
theorem dX3_referrers_52 : decode cX3_referrers 52 = .ok (.ireturn, 1) := dk_172 (dk_at dksX3_referrers_2 4 rfl rfl)
abbrev cX3_referrer : ByteArray := prog_21_method_80_code
def yX3_referrer : MethodName := ⟨RX3, "referrer", "(II)I"⟩
def dkwX3_referrer_2 : List UInt8 := [181, 0, 1, 21, 4, 172, 132, 3, 255, 132, 4, 1, 167, 255, 202, 42, 4, 181, 0, 1, 3, 172]
abbrev dktX3_referrer_2 : List UInt8 := dkwX3_referrer_2 ++ []
def dkwX3_referrer_1 : List UInt8 := [29, 155, 0, 37, 42, 21, 4, 182, 1, 1, 27, 159, 0, 6, 167, 0, 18, 29, 154, 0, 11, 42, 3]
abbrev dktX3_referrer_1 : List UInt8 := dkwX3_referrer_1 ++ dktX3_referrer_2
def dkwX3_referrer_0 : List UInt8 := [28, 62, 4, 54, 4, 21, 4, 42, 180, 0, 13, 3, 46, 163, 0, 49, 42, 27, 182, 0, 167, 153, 0, 41]
abbrev dktX3_referrer_0 : List UInt8 := dkwX3_referrer_0 ++ dktX3_referrer_1
theorem dksX3_referrer_0 : cX3_referrer.data.toList.drop 0 = dktX3_referrer_0 := by decide +kernel
theorem dksX3_referrer_1 : cX3_referrer.data.toList.drop 24 = dktX3_referrer_1 := dk_seg dksX3_referrer_0 24 rfl rfl
theorem dksX3_referrer_2 : cX3_referrer.data.toList.drop 47 = dktX3_referrer_2 := dk_seg dksX3_referrer_1 23 rfl rfl
theorem dX3_referrer_0 : decode cX3_referrer 0 = .ok (.iload_n 2, 1) := dk_28 (dk_at dksX3_referrer_0 0 rfl rfl)
theorem dX3_referrer_1 : decode cX3_referrer 1 = .ok (.istore_n 3, 1) := dk_62 (dk_at dksX3_referrer_0 1 rfl rfl)
theorem dX3_referrer_2 : decode cX3_referrer 2 = .ok (.iconst 1, 1) := dk_4 (dk_at dksX3_referrer_0 2 rfl rfl)
theorem dX3_referrer_3 : decode cX3_referrer 3 = .ok (.istore 4, 2) := dk_54 4 (dk_at dksX3_referrer_0 3 rfl rfl)
theorem dX3_referrer_5 : decode cX3_referrer 5 = .ok (.iload 4, 2) := dk_21 4 (dk_at dksX3_referrer_0 5 rfl rfl)
theorem dX3_referrer_7 : decode cX3_referrer 7 = .ok (.aload_n 0, 1) := dk_42 (dk_at dksX3_referrer_0 7 rfl rfl)
theorem dX3_referrer_8 : decode cX3_referrer 8 = .ok (.getfield 13, 3) := dk_180 0 13 (dk_at dksX3_referrer_0 8 rfl rfl)
theorem dX3_referrer_11 : decode cX3_referrer 11 = .ok (.iconst 0, 1) := dk_3 (dk_at dksX3_referrer_0 11 rfl rfl)
theorem dX3_referrer_12 : decode cX3_referrer 12 = .ok (.iaload, 1) := dk_46 (dk_at dksX3_referrer_0 12 rfl rfl)
theorem dX3_referrer_13 : decode cX3_referrer 13 = .ok (.if_icmp .gt 49, 3) := dk_163 0 49 (dk_at dksX3_referrer_0 13 rfl rfl)
theorem dX3_referrer_16 : decode cX3_referrer 16 = .ok (.aload_n 0, 1) := dk_42 (dk_at dksX3_referrer_0 16 rfl rfl)
theorem dX3_referrer_17 : decode cX3_referrer 17 = .ok (.iload_n 1, 1) := dk_27 (dk_at dksX3_referrer_0 17 rfl rfl)
theorem dX3_referrer_18 : decode cX3_referrer 18 = .ok (.invokevirtual 167, 3) := dk_182 0 167 (dk_at dksX3_referrer_0 18 rfl rfl)
theorem dX3_referrer_21 : decode cX3_referrer 21 = .ok (.ifCond .eq 41, 3) := dk_153 0 41 (dk_at dksX3_referrer_0 21 rfl rfl)
theorem dX3_referrer_24 : decode cX3_referrer 24 = .ok (.iload_n 3, 1) := dk_29 (dk_at dksX3_referrer_1 0 rfl rfl)
theorem dX3_referrer_25 : decode cX3_referrer 25 = .ok (.ifCond .lt 37, 3) := dk_155 0 37 (dk_at dksX3_referrer_1 1 rfl rfl)
theorem dX3_referrer_28 : decode cX3_referrer 28 = .ok (.aload_n 0, 1) := dk_42 (dk_at dksX3_referrer_1 4 rfl rfl)
theorem dX3_referrer_29 : decode cX3_referrer 29 = .ok (.iload 4, 2) := dk_21 4 (dk_at dksX3_referrer_1 5 rfl rfl)
theorem dX3_referrer_31 : decode cX3_referrer 31 = .ok (.invokevirtual 257, 3) := dk_182 1 1 (dk_at dksX3_referrer_1 7 rfl rfl)
theorem dX3_referrer_34 : decode cX3_referrer 34 = .ok (.iload_n 1, 1) := dk_27 (dk_at dksX3_referrer_1 10 rfl rfl)
theorem dX3_referrer_35 : decode cX3_referrer 35 = .ok (.if_icmp .eq 6, 3) := dk_159 0 6 (dk_at dksX3_referrer_1 11 rfl rfl)
theorem dX3_referrer_38 : decode cX3_referrer 38 = .ok (.goto 18, 3) := dk_167 0 18 (dk_at dksX3_referrer_1 14 rfl rfl)
theorem dX3_referrer_41 : decode cX3_referrer 41 = .ok (.iload_n 3, 1) := dk_29 (dk_at dksX3_referrer_1 17 rfl rfl)
theorem dX3_referrer_42 : decode cX3_referrer 42 = .ok (.ifCond .ne 11, 3) := dk_154 0 11 (dk_at dksX3_referrer_1 18 rfl rfl)
theorem dX3_referrer_45 : decode cX3_referrer 45 = .ok (.aload_n 0, 1) := dk_42 (dk_at dksX3_referrer_1 21 rfl rfl)
theorem dX3_referrer_46 : decode cX3_referrer 46 = .ok (.iconst 0, 1) := dk_3 (dk_at dksX3_referrer_1 22 rfl rfl)
theorem dX3_referrer_47 : decode cX3_referrer 47 = .ok (.putfield 1, 3) := dk_181 0 1 (dk_at dksX3_referrer_2 0 rfl rfl)
theorem dX3_referrer_50 : decode cX3_referrer 50 = .ok (.iload 4, 2) := dk_21 4 (dk_at dksX3_referrer_2 3 rfl rfl)
theorem dX3_referrer_52 : decode cX3_referrer 52 = .ok (.ireturn, 1) := dk_172 (dk_at dksX3_referrer_2 5 rfl rfl)
theorem dX3_referrer_53 : decode cX3_referrer 53 = .ok (.iinc 3 (-1), 3) := dk_132 3 255 (dk_at dksX3_referrer_2 6 rfl rfl)
theorem dX3_referrer_56 : decode cX3_referrer 56 = .ok (.iinc 4 1, 3) := dk_132 4 1 (dk_at dksX3_referrer_2 9 rfl rfl)
theorem dX3_referrer_59 : decode cX3_referrer 59 = .ok (.goto (-54), 3) := dk_167 255 202 (dk_at dksX3_referrer_2 12 rfl rfl)
theorem dX3_referrer_62 : decode cX3_referrer 62 = .ok (.aload_n 0, 1) := dk_42 (dk_at dksX3_referrer_2 15 rfl rfl)
theorem dX3_referrer_63 : decode cX3_referrer 63 = .ok (.iconst 1, 1) := dk_4 (dk_at dksX3_referrer_2 16 rfl rfl)
theorem dX3_referrer_64 : decode cX3_referrer 64 = .ok (.putfield 1, 3) := dk_181 0 1 (dk_at dksX3_referrer_2 17 rfl rfl)
theorem dX3_referrer_67 : decode cX3_referrer 67 = .ok (.iconst 0, 1) := dk_3 (dk_at dksX3_referrer_2 20 rfl rfl)
theorem dX3_referrer_68 : decode cX3_referrer 68 = .ok (.ireturn, 1) := dk_172 (dk_at dksX3_referrer_2 21 rfl rfl)
abbrev cX3_cursor : ByteArray := prog_21_method_82_code
def yX3_cursor : MethodName := ⟨RX3, "cursor", "()I"⟩
def dkwX3_cursor_0 : List UInt8 := [42, 3, 181, 0, 1, 42, 182, 1, 4, 172]
abbrev dktX3_cursor_0 : List UInt8 := dkwX3_cursor_0 ++ []
theorem dksX3_cursor_0 : cX3_cursor.data.toList.drop 0 = dktX3_cursor_0 := by decide +kernel
theorem dX3_cursor_0 : decode cX3_cursor 0 = .ok (.aload_n 0, 1) := dk_42 (dk_at dksX3_cursor_0 0 rfl rfl)
theorem dX3_cursor_1 : decode cX3_cursor 1 = .ok (.iconst 0, 1) := dk_3 (dk_at dksX3_cursor_0 1 rfl rfl)
theorem dX3_cursor_2 : decode cX3_cursor 2 = .ok (.putfield 1, 3) := dk_181 0 1 (dk_at dksX3_cursor_0 2 rfl rfl)
theorem dX3_cursor_5 : decode cX3_cursor 5 = .ok (.aload_n 0, 1) := dk_42 (dk_at dksX3_cursor_0 5 rfl rfl)
theorem dX3_cursor_6 : decode cX3_cursor 6 = .ok (.invokevirtual 260, 3) := dk_182 1 4 (dk_at dksX3_cursor_0 6 rfl rfl)
theorem dX3_cursor_9 : decode cX3_cursor 9 = .ok (.ireturn, 1) := dk_172 (dk_at dksX3_cursor_0 9 rfl rfl)
abbrev cX3_cursorLine : ByteArray := prog_21_method_81_code
def yX3_cursorLine : MethodName := ⟨RX3, "cursorLine", "()I"⟩
def dkwX3_cursorLine_1 : List UInt8 := [172]
abbrev dktX3_cursorLine_1 : List UInt8 := dkwX3_cursorLine_1 ++ []
def dkwX3_cursorLine_0 : List UInt8 := [42, 180, 0, 13, 5, 46, 2, 160, 0, 7, 3, 167, 0, 13, 42, 42, 180, 0, 13, 5, 46, 182, 0, 192]
abbrev dktX3_cursorLine_0 : List UInt8 := dkwX3_cursorLine_0 ++ dktX3_cursorLine_1
theorem dksX3_cursorLine_0 : cX3_cursorLine.data.toList.drop 0 = dktX3_cursorLine_0 := by decide +kernel
theorem dksX3_cursorLine_1 : cX3_cursorLine.data.toList.drop 24 = dktX3_cursorLine_1 := dk_seg dksX3_cursorLine_0 24 rfl rfl
theorem dX3_cursorLine_0 : decode cX3_cursorLine 0 = .ok (.aload_n 0, 1) := dk_42 (dk_at dksX3_cursorLine_0 0 rfl rfl)
theorem dX3_cursorLine_1 : decode cX3_cursorLine 1 = .ok (.getfield 13, 3) := dk_180 0 13 (dk_at dksX3_cursorLine_0 1 rfl rfl)
theorem dX3_cursorLine_4 : decode cX3_cursorLine 4 = .ok (.iconst 2, 1) := dk_5 (dk_at dksX3_cursorLine_0 4 rfl rfl)
theorem dX3_cursorLine_5 : decode cX3_cursorLine 5 = .ok (.iaload, 1) := dk_46 (dk_at dksX3_cursorLine_0 5 rfl rfl)
theorem dX3_cursorLine_6 : decode cX3_cursorLine 6 = .ok (.iconst (-1), 1) := dk_2 (dk_at dksX3_cursorLine_0 6 rfl rfl)
theorem dX3_cursorLine_7 : decode cX3_cursorLine 7 = .ok (.if_icmp .ne 7, 3) := dk_160 0 7 (dk_at dksX3_cursorLine_0 7 rfl rfl)
theorem dX3_cursorLine_10 : decode cX3_cursorLine 10 = .ok (.iconst 0, 1) := dk_3 (dk_at dksX3_cursorLine_0 10 rfl rfl)
theorem dX3_cursorLine_11 : decode cX3_cursorLine 11 = .ok (.goto 13, 3) := dk_167 0 13 (dk_at dksX3_cursorLine_0 11 rfl rfl)
theorem dX3_cursorLine_14 : decode cX3_cursorLine 14 = .ok (.aload_n 0, 1) := dk_42 (dk_at dksX3_cursorLine_0 14 rfl rfl)
theorem dX3_cursorLine_15 : decode cX3_cursorLine 15 = .ok (.aload_n 0, 1) := dk_42 (dk_at dksX3_cursorLine_0 15 rfl rfl)
theorem dX3_cursorLine_16 : decode cX3_cursorLine 16 = .ok (.getfield 13, 3) := dk_180 0 13 (dk_at dksX3_cursorLine_0 16 rfl rfl)
theorem dX3_cursorLine_19 : decode cX3_cursorLine 19 = .ok (.iconst 2, 1) := dk_5 (dk_at dksX3_cursorLine_0 19 rfl rfl)
theorem dX3_cursorLine_20 : decode cX3_cursorLine 20 = .ok (.iaload, 1) := dk_46 (dk_at dksX3_cursorLine_0 20 rfl rfl)
theorem dX3_cursorLine_21 : decode cX3_cursorLine 21 = .ok (.invokevirtual 192, 3) := dk_182 0 192 (dk_at dksX3_cursorLine_0 21 rfl rfl)
theorem dX3_cursorLine_24 : decode cX3_cursorLine 24 = .ok (.ireturn, 1) := dk_172 (dk_at dksX3_cursorLine_1 0 rfl rfl)
abbrev cX3_jumped : ByteArray := prog_21_method_83_code
def yX3_jumped : MethodName := ⟨RX3, "jumped", "(ZI)I"⟩
def dkwX3_jumped_2 : List UInt8 := [4, 100, 28, 100, 46, 182, 0, 192, 167, 0, 4, 3, 172]
abbrev dktX3_jumped_2 : List UInt8 := dkwX3_jumped_2 ++ []
def dkwX3_jumped_1 : List UInt8 := [182, 0, 111, 153, 0, 32, 42, 42, 180, 0, 13, 27, 153, 0, 8, 16, 25, 167, 0, 5, 16, 15, 29, 96]
abbrev dktX3_jumped_1 : List UInt8 := dkwX3_jumped_1 ++ dktX3_jumped_2
def dkwX3_jumped_0 : List UInt8 := [42, 180, 0, 13, 27, 153, 0, 7, 7, 167, 0, 4, 6, 46, 62, 42, 28, 3, 29, 4, 100, 184, 0, 95]
abbrev dktX3_jumped_0 : List UInt8 := dkwX3_jumped_0 ++ dktX3_jumped_1
theorem dksX3_jumped_0 : cX3_jumped.data.toList.drop 0 = dktX3_jumped_0 := by decide +kernel
theorem dksX3_jumped_1 : cX3_jumped.data.toList.drop 24 = dktX3_jumped_1 := dk_seg dksX3_jumped_0 24 rfl rfl
theorem dksX3_jumped_2 : cX3_jumped.data.toList.drop 48 = dktX3_jumped_2 := dk_seg dksX3_jumped_1 24 rfl rfl
theorem dX3_jumped_0 : decode cX3_jumped 0 = .ok (.aload_n 0, 1) := dk_42 (dk_at dksX3_jumped_0 0 rfl rfl)
theorem dX3_jumped_1 : decode cX3_jumped 1 = .ok (.getfield 13, 3) := dk_180 0 13 (dk_at dksX3_jumped_0 1 rfl rfl)
theorem dX3_jumped_4 : decode cX3_jumped 4 = .ok (.iload_n 1, 1) := dk_27 (dk_at dksX3_jumped_0 4 rfl rfl)
theorem dX3_jumped_5 : decode cX3_jumped 5 = .ok (.ifCond .eq 7, 3) := dk_153 0 7 (dk_at dksX3_jumped_0 5 rfl rfl)
theorem dX3_jumped_8 : decode cX3_jumped 8 = .ok (.iconst 4, 1) := dk_7 (dk_at dksX3_jumped_0 8 rfl rfl)
theorem dX3_jumped_9 : decode cX3_jumped 9 = .ok (.goto 4, 3) := dk_167 0 4 (dk_at dksX3_jumped_0 9 rfl rfl)
theorem dX3_jumped_12 : decode cX3_jumped 12 = .ok (.iconst 3, 1) := dk_6 (dk_at dksX3_jumped_0 12 rfl rfl)
theorem dX3_jumped_13 : decode cX3_jumped 13 = .ok (.iaload, 1) := dk_46 (dk_at dksX3_jumped_0 13 rfl rfl)
theorem dX3_jumped_14 : decode cX3_jumped 14 = .ok (.istore_n 3, 1) := dk_62 (dk_at dksX3_jumped_0 14 rfl rfl)
theorem dX3_jumped_15 : decode cX3_jumped 15 = .ok (.aload_n 0, 1) := dk_42 (dk_at dksX3_jumped_0 15 rfl rfl)
theorem dX3_jumped_16 : decode cX3_jumped 16 = .ok (.iload_n 2, 1) := dk_28 (dk_at dksX3_jumped_0 16 rfl rfl)
theorem dX3_jumped_17 : decode cX3_jumped 17 = .ok (.iconst 0, 1) := dk_3 (dk_at dksX3_jumped_0 17 rfl rfl)
theorem dX3_jumped_18 : decode cX3_jumped 18 = .ok (.iload_n 3, 1) := dk_29 (dk_at dksX3_jumped_0 18 rfl rfl)
theorem dX3_jumped_19 : decode cX3_jumped 19 = .ok (.iconst 1, 1) := dk_4 (dk_at dksX3_jumped_0 19 rfl rfl)
theorem dX3_jumped_20 : decode cX3_jumped 20 = .ok (.isub, 1) := dk_100 (dk_at dksX3_jumped_0 20 rfl rfl)
theorem dX3_jumped_21 : decode cX3_jumped 21 = .ok (.invokestatic 95, 3) := dk_184 0 95 (dk_at dksX3_jumped_0 21 rfl rfl)
theorem dX3_jumped_24 : decode cX3_jumped 24 = .ok (.invokevirtual 111, 3) := dk_182 0 111 (dk_at dksX3_jumped_1 0 rfl rfl)
theorem dX3_jumped_27 : decode cX3_jumped 27 = .ok (.ifCond .eq 32, 3) := dk_153 0 32 (dk_at dksX3_jumped_1 3 rfl rfl)
theorem dX3_jumped_30 : decode cX3_jumped 30 = .ok (.aload_n 0, 1) := dk_42 (dk_at dksX3_jumped_1 6 rfl rfl)
theorem dX3_jumped_31 : decode cX3_jumped 31 = .ok (.aload_n 0, 1) := dk_42 (dk_at dksX3_jumped_1 7 rfl rfl)
theorem dX3_jumped_32 : decode cX3_jumped 32 = .ok (.getfield 13, 3) := dk_180 0 13 (dk_at dksX3_jumped_1 8 rfl rfl)
theorem dX3_jumped_35 : decode cX3_jumped 35 = .ok (.iload_n 1, 1) := dk_27 (dk_at dksX3_jumped_1 11 rfl rfl)
theorem dX3_jumped_36 : decode cX3_jumped 36 = .ok (.ifCond .eq 8, 3) := dk_153 0 8 (dk_at dksX3_jumped_1 12 rfl rfl)
theorem dX3_jumped_39 : decode cX3_jumped 39 = .ok (.bipush 25, 2) := dk_16 25 (dk_at dksX3_jumped_1 15 rfl rfl)
theorem dX3_jumped_41 : decode cX3_jumped 41 = .ok (.goto 5, 3) := dk_167 0 5 (dk_at dksX3_jumped_1 17 rfl rfl)
theorem dX3_jumped_44 : decode cX3_jumped 44 = .ok (.bipush 15, 2) := dk_16 15 (dk_at dksX3_jumped_1 20 rfl rfl)
theorem dX3_jumped_46 : decode cX3_jumped 46 = .ok (.iload_n 3, 1) := dk_29 (dk_at dksX3_jumped_1 22 rfl rfl)
theorem dX3_jumped_47 : decode cX3_jumped 47 = .ok (.iadd, 1) := dk_96 (dk_at dksX3_jumped_1 23 rfl rfl)
theorem dX3_jumped_48 : decode cX3_jumped 48 = .ok (.iconst 1, 1) := dk_4 (dk_at dksX3_jumped_2 0 rfl rfl)
theorem dX3_jumped_49 : decode cX3_jumped 49 = .ok (.isub, 1) := dk_100 (dk_at dksX3_jumped_2 1 rfl rfl)
theorem dX3_jumped_50 : decode cX3_jumped 50 = .ok (.iload_n 2, 1) := dk_28 (dk_at dksX3_jumped_2 2 rfl rfl)
theorem dX3_jumped_51 : decode cX3_jumped 51 = .ok (.isub, 1) := dk_100 (dk_at dksX3_jumped_2 3 rfl rfl)
theorem dX3_jumped_52 : decode cX3_jumped 52 = .ok (.iaload, 1) := dk_46 (dk_at dksX3_jumped_2 4 rfl rfl)
theorem dX3_jumped_53 : decode cX3_jumped 53 = .ok (.invokevirtual 192, 3) := dk_182 0 192 (dk_at dksX3_jumped_2 5 rfl rfl)
theorem dX3_jumped_56 : decode cX3_jumped 56 = .ok (.goto 4, 3) := dk_167 0 4 (dk_at dksX3_jumped_2 8 rfl rfl)
theorem dX3_jumped_59 : decode cX3_jumped 59 = .ok (.iconst 0, 1) := dk_3 (dk_at dksX3_jumped_2 11 rfl rfl)
theorem dX3_jumped_60 : decode cX3_jumped 60 = .ok (.ireturn, 1) := dk_172 (dk_at dksX3_jumped_2 12 rfl rfl)
abbrev cX3_shownIf : ByteArray := prog_21_method_84_code
def yX3_shownIf : MethodName := ⟨RX3, "shownIf", "(IZ)I"⟩
def dkwX3_shownIf_1 : List UInt8 := [3, 182, 0, 164, 42, 182, 0, 195, 172]
abbrev dktX3_shownIf_1 : List UInt8 := dkwX3_shownIf_1 ++ []
def dkwX3_shownIf_0 : List UInt8 := [42, 42, 27, 182, 0, 167, 182, 0, 111, 154, 0, 5, 3, 172, 42, 27, 28, 153, 0, 7, 4, 167, 0, 4]
abbrev dktX3_shownIf_0 : List UInt8 := dkwX3_shownIf_0 ++ dktX3_shownIf_1
theorem dksX3_shownIf_0 : cX3_shownIf.data.toList.drop 0 = dktX3_shownIf_0 := by decide +kernel
theorem dksX3_shownIf_1 : cX3_shownIf.data.toList.drop 24 = dktX3_shownIf_1 := dk_seg dksX3_shownIf_0 24 rfl rfl
theorem dX3_shownIf_0 : decode cX3_shownIf 0 = .ok (.aload_n 0, 1) := dk_42 (dk_at dksX3_shownIf_0 0 rfl rfl)
theorem dX3_shownIf_1 : decode cX3_shownIf 1 = .ok (.aload_n 0, 1) := dk_42 (dk_at dksX3_shownIf_0 1 rfl rfl)
theorem dX3_shownIf_2 : decode cX3_shownIf 2 = .ok (.iload_n 1, 1) := dk_27 (dk_at dksX3_shownIf_0 2 rfl rfl)
theorem dX3_shownIf_3 : decode cX3_shownIf 3 = .ok (.invokevirtual 167, 3) := dk_182 0 167 (dk_at dksX3_shownIf_0 3 rfl rfl)
theorem dX3_shownIf_6 : decode cX3_shownIf 6 = .ok (.invokevirtual 111, 3) := dk_182 0 111 (dk_at dksX3_shownIf_0 6 rfl rfl)
theorem dX3_shownIf_9 : decode cX3_shownIf 9 = .ok (.ifCond .ne 5, 3) := dk_154 0 5 (dk_at dksX3_shownIf_0 9 rfl rfl)
theorem dX3_shownIf_12 : decode cX3_shownIf 12 = .ok (.iconst 0, 1) := dk_3 (dk_at dksX3_shownIf_0 12 rfl rfl)
theorem dX3_shownIf_13 : decode cX3_shownIf 13 = .ok (.ireturn, 1) := dk_172 (dk_at dksX3_shownIf_0 13 rfl rfl)
theorem dX3_shownIf_14 : decode cX3_shownIf 14 = .ok (.aload_n 0, 1) := dk_42 (dk_at dksX3_shownIf_0 14 rfl rfl)
theorem dX3_shownIf_15 : decode cX3_shownIf 15 = .ok (.iload_n 1, 1) := dk_27 (dk_at dksX3_shownIf_0 15 rfl rfl)
theorem dX3_shownIf_16 : decode cX3_shownIf 16 = .ok (.iload_n 2, 1) := dk_28 (dk_at dksX3_shownIf_0 16 rfl rfl)
theorem dX3_shownIf_17 : decode cX3_shownIf 17 = .ok (.ifCond .eq 7, 3) := dk_153 0 7 (dk_at dksX3_shownIf_0 17 rfl rfl)
theorem dX3_shownIf_20 : decode cX3_shownIf 20 = .ok (.iconst 1, 1) := dk_4 (dk_at dksX3_shownIf_0 20 rfl rfl)
theorem dX3_shownIf_21 : decode cX3_shownIf 21 = .ok (.goto 4, 3) := dk_167 0 4 (dk_at dksX3_shownIf_0 21 rfl rfl)
theorem dX3_shownIf_24 : decode cX3_shownIf 24 = .ok (.iconst 0, 1) := dk_3 (dk_at dksX3_shownIf_1 0 rfl rfl)
theorem dX3_shownIf_25 : decode cX3_shownIf 25 = .ok (.invokevirtual 164, 3) := dk_182 0 164 (dk_at dksX3_shownIf_1 1 rfl rfl)
theorem dX3_shownIf_28 : decode cX3_shownIf 28 = .ok (.aload_n 0, 1) := dk_42 (dk_at dksX3_shownIf_1 4 rfl rfl)
theorem dX3_shownIf_29 : decode cX3_shownIf 29 = .ok (.invokevirtual 195, 3) := dk_182 0 195 (dk_at dksX3_shownIf_1 5 rfl rfl)
theorem dX3_shownIf_32 : decode cX3_shownIf 32 = .ok (.ireturn, 1) := dk_172 (dk_at dksX3_shownIf_1 8 rfl rfl)
abbrev cX3_opensFor : ByteArray := prog_21_method_86_code
def yX3_opensFor : MethodName := ⟨RX3, "opensFor", "(I)I"⟩
def dkwX3_opensFor_0 : List UInt8 := [42, 42, 27, 182, 0, 167, 182, 0, 111, 153, 0, 11, 42, 27, 182, 1, 7, 167, 0, 4, 3, 172]
abbrev dktX3_opensFor_0 : List UInt8 := dkwX3_opensFor_0 ++ []
theorem dksX3_opensFor_0 : cX3_opensFor.data.toList.drop 0 = dktX3_opensFor_0 := by decide +kernel
theorem dX3_opensFor_0 : decode cX3_opensFor 0 = .ok (.aload_n 0, 1) := dk_42 (dk_at dksX3_opensFor_0 0 rfl rfl)
theorem dX3_opensFor_1 : decode cX3_opensFor 1 = .ok (.aload_n 0, 1) := dk_42 (dk_at dksX3_opensFor_0 1 rfl rfl)
theorem dX3_opensFor_2 : decode cX3_opensFor 2 = .ok (.iload_n 1, 1) := dk_27 (dk_at dksX3_opensFor_0 2 rfl rfl)
theorem dX3_opensFor_3 : decode cX3_opensFor 3 = .ok (.invokevirtual 167, 3) := dk_182 0 167 (dk_at dksX3_opensFor_0 3 rfl rfl)
theorem dX3_opensFor_6 : decode cX3_opensFor 6 = .ok (.invokevirtual 111, 3) := dk_182 0 111 (dk_at dksX3_opensFor_0 6 rfl rfl)
theorem dX3_opensFor_9 : decode cX3_opensFor 9 = .ok (.ifCond .eq 11, 3) := dk_153 0 11 (dk_at dksX3_opensFor_0 9 rfl rfl)
theorem dX3_opensFor_12 : decode cX3_opensFor 12 = .ok (.aload_n 0, 1) := dk_42 (dk_at dksX3_opensFor_0 12 rfl rfl)
theorem dX3_opensFor_13 : decode cX3_opensFor 13 = .ok (.iload_n 1, 1) := dk_27 (dk_at dksX3_opensFor_0 13 rfl rfl)
theorem dX3_opensFor_14 : decode cX3_opensFor 14 = .ok (.invokevirtual 263, 3) := dk_182 1 7 (dk_at dksX3_opensFor_0 14 rfl rfl)
theorem dX3_opensFor_17 : decode cX3_opensFor 17 = .ok (.goto 4, 3) := dk_167 0 4 (dk_at dksX3_opensFor_0 17 rfl rfl)
theorem dX3_opensFor_20 : decode cX3_opensFor 20 = .ok (.iconst 0, 1) := dk_3 (dk_at dksX3_opensFor_0 20 rfl rfl)
theorem dX3_opensFor_21 : decode cX3_opensFor 21 = .ok (.ireturn, 1) := dk_172 (dk_at dksX3_opensFor_0 21 rfl rfl)
abbrev cX3_laysOpened : ByteArray := prog_21_method_85_code
def yX3_laysOpened : MethodName := ⟨RX3, "laysOpened", "(I)I"⟩
def dkwX3_laysOpened_4 : List UInt8 := [180, 0, 70, 29, 51, 153, 0, 7, 4, 167, 0, 4, 3, 96, 61, 132, 3, 1, 167, 255, 226, 28, 172]
abbrev dktX3_laysOpened_4 : List UInt8 := dkwX3_laysOpened_4 ++ []
def dkwX3_laysOpened_3 : List UInt8 := [132, 2, 1, 167, 255, 216, 3, 61, 4, 62, 29, 42, 180, 0, 13, 3, 46, 163, 0, 26, 28, 42]
abbrev dktX3_laysOpened_3 : List UInt8 := dkwX3_laysOpened_3 ++ dktX3_laysOpened_4
def dkwX3_laysOpened_2 : List UInt8 := [153, 0, 23, 42, 28, 182, 0, 215, 153, 0, 15, 42, 180, 0, 70, 42, 180, 0, 46, 28, 46, 4, 84]
abbrev dktX3_laysOpened_2 : List UInt8 := dkwX3_laysOpened_2 ++ dktX3_laysOpened_3
def dkwX3_laysOpened_1 : List UInt8 := [132, 2, 1, 167, 255, 236, 3, 61, 28, 42, 180, 0, 145, 162, 0, 38, 42, 27, 28, 182, 0, 239]
abbrev dktX3_laysOpened_1 : List UInt8 := dkwX3_laysOpened_1 ++ dktX3_laysOpened_2
def dkwX3_laysOpened_0 : List UInt8 := [42, 182, 0, 174, 3, 61, 28, 42, 180, 0, 13, 3, 46, 163, 0, 16, 42, 180, 0, 70, 28, 3, 84]
abbrev dktX3_laysOpened_0 : List UInt8 := dkwX3_laysOpened_0 ++ dktX3_laysOpened_1
theorem dksX3_laysOpened_0 : cX3_laysOpened.data.toList.drop 0 = dktX3_laysOpened_0 := by decide +kernel
theorem dksX3_laysOpened_1 : cX3_laysOpened.data.toList.drop 23 = dktX3_laysOpened_1 := dk_seg dksX3_laysOpened_0 23 rfl rfl
theorem dksX3_laysOpened_2 : cX3_laysOpened.data.toList.drop 45 = dktX3_laysOpened_2 := dk_seg dksX3_laysOpened_1 22 rfl rfl
theorem dksX3_laysOpened_3 : cX3_laysOpened.data.toList.drop 68 = dktX3_laysOpened_3 := dk_seg dksX3_laysOpened_2 23 rfl rfl
theorem dksX3_laysOpened_4 : cX3_laysOpened.data.toList.drop 90 = dktX3_laysOpened_4 := dk_seg dksX3_laysOpened_3 22 rfl rfl
theorem dX3_laysOpened_0 : decode cX3_laysOpened 0 = .ok (.aload_n 0, 1) := dk_42 (dk_at dksX3_laysOpened_0 0 rfl rfl)
theorem dX3_laysOpened_1 : decode cX3_laysOpened 1 = .ok (.invokevirtual 174, 3) := dk_182 0 174 (dk_at dksX3_laysOpened_0 1 rfl rfl)
theorem dX3_laysOpened_4 : decode cX3_laysOpened 4 = .ok (.iconst 0, 1) := dk_3 (dk_at dksX3_laysOpened_0 4 rfl rfl)
theorem dX3_laysOpened_5 : decode cX3_laysOpened 5 = .ok (.istore_n 2, 1) := dk_61 (dk_at dksX3_laysOpened_0 5 rfl rfl)
theorem dX3_laysOpened_6 : decode cX3_laysOpened 6 = .ok (.iload_n 2, 1) := dk_28 (dk_at dksX3_laysOpened_0 6 rfl rfl)
theorem dX3_laysOpened_7 : decode cX3_laysOpened 7 = .ok (.aload_n 0, 1) := dk_42 (dk_at dksX3_laysOpened_0 7 rfl rfl)
theorem dX3_laysOpened_8 : decode cX3_laysOpened 8 = .ok (.getfield 13, 3) := dk_180 0 13 (dk_at dksX3_laysOpened_0 8 rfl rfl)
theorem dX3_laysOpened_11 : decode cX3_laysOpened 11 = .ok (.iconst 0, 1) := dk_3 (dk_at dksX3_laysOpened_0 11 rfl rfl)
theorem dX3_laysOpened_12 : decode cX3_laysOpened 12 = .ok (.iaload, 1) := dk_46 (dk_at dksX3_laysOpened_0 12 rfl rfl)
theorem dX3_laysOpened_13 : decode cX3_laysOpened 13 = .ok (.if_icmp .gt 16, 3) := dk_163 0 16 (dk_at dksX3_laysOpened_0 13 rfl rfl)
theorem dX3_laysOpened_16 : decode cX3_laysOpened 16 = .ok (.aload_n 0, 1) := dk_42 (dk_at dksX3_laysOpened_0 16 rfl rfl)
theorem dX3_laysOpened_17 : decode cX3_laysOpened 17 = .ok (.getfield 70, 3) := dk_180 0 70 (dk_at dksX3_laysOpened_0 17 rfl rfl)
theorem dX3_laysOpened_20 : decode cX3_laysOpened 20 = .ok (.iload_n 2, 1) := dk_28 (dk_at dksX3_laysOpened_0 20 rfl rfl)
theorem dX3_laysOpened_21 : decode cX3_laysOpened 21 = .ok (.iconst 0, 1) := dk_3 (dk_at dksX3_laysOpened_0 21 rfl rfl)
theorem dX3_laysOpened_22 : decode cX3_laysOpened 22 = .ok (.bastore, 1) := dk_84 (dk_at dksX3_laysOpened_0 22 rfl rfl)
theorem dX3_laysOpened_23 : decode cX3_laysOpened 23 = .ok (.iinc 2 1, 3) := dk_132 2 1 (dk_at dksX3_laysOpened_1 0 rfl rfl)
theorem dX3_laysOpened_26 : decode cX3_laysOpened 26 = .ok (.goto (-20), 3) := dk_167 255 236 (dk_at dksX3_laysOpened_1 3 rfl rfl)
theorem dX3_laysOpened_29 : decode cX3_laysOpened 29 = .ok (.iconst 0, 1) := dk_3 (dk_at dksX3_laysOpened_1 6 rfl rfl)
theorem dX3_laysOpened_30 : decode cX3_laysOpened 30 = .ok (.istore_n 2, 1) := dk_61 (dk_at dksX3_laysOpened_1 7 rfl rfl)
theorem dX3_laysOpened_31 : decode cX3_laysOpened 31 = .ok (.iload_n 2, 1) := dk_28 (dk_at dksX3_laysOpened_1 8 rfl rfl)
theorem dX3_laysOpened_32 : decode cX3_laysOpened 32 = .ok (.aload_n 0, 1) := dk_42 (dk_at dksX3_laysOpened_1 9 rfl rfl)
theorem dX3_laysOpened_33 : decode cX3_laysOpened 33 = .ok (.getfield 145, 3) := dk_180 0 145 (dk_at dksX3_laysOpened_1 10 rfl rfl)
theorem dX3_laysOpened_36 : decode cX3_laysOpened 36 = .ok (.if_icmp .ge 38, 3) := dk_162 0 38 (dk_at dksX3_laysOpened_1 13 rfl rfl)
theorem dX3_laysOpened_39 : decode cX3_laysOpened 39 = .ok (.aload_n 0, 1) := dk_42 (dk_at dksX3_laysOpened_1 16 rfl rfl)
theorem dX3_laysOpened_40 : decode cX3_laysOpened 40 = .ok (.iload_n 1, 1) := dk_27 (dk_at dksX3_laysOpened_1 17 rfl rfl)
theorem dX3_laysOpened_41 : decode cX3_laysOpened 41 = .ok (.iload_n 2, 1) := dk_28 (dk_at dksX3_laysOpened_1 18 rfl rfl)
theorem dX3_laysOpened_42 : decode cX3_laysOpened 42 = .ok (.invokevirtual 239, 3) := dk_182 0 239 (dk_at dksX3_laysOpened_1 19 rfl rfl)
theorem dX3_laysOpened_45 : decode cX3_laysOpened 45 = .ok (.ifCond .eq 23, 3) := dk_153 0 23 (dk_at dksX3_laysOpened_2 0 rfl rfl)
theorem dX3_laysOpened_48 : decode cX3_laysOpened 48 = .ok (.aload_n 0, 1) := dk_42 (dk_at dksX3_laysOpened_2 3 rfl rfl)
theorem dX3_laysOpened_49 : decode cX3_laysOpened 49 = .ok (.iload_n 2, 1) := dk_28 (dk_at dksX3_laysOpened_2 4 rfl rfl)
theorem dX3_laysOpened_50 : decode cX3_laysOpened 50 = .ok (.invokevirtual 215, 3) := dk_182 0 215 (dk_at dksX3_laysOpened_2 5 rfl rfl)
theorem dX3_laysOpened_53 : decode cX3_laysOpened 53 = .ok (.ifCond .eq 15, 3) := dk_153 0 15 (dk_at dksX3_laysOpened_2 8 rfl rfl)
theorem dX3_laysOpened_56 : decode cX3_laysOpened 56 = .ok (.aload_n 0, 1) := dk_42 (dk_at dksX3_laysOpened_2 11 rfl rfl)
theorem dX3_laysOpened_57 : decode cX3_laysOpened 57 = .ok (.getfield 70, 3) := dk_180 0 70 (dk_at dksX3_laysOpened_2 12 rfl rfl)
theorem dX3_laysOpened_60 : decode cX3_laysOpened 60 = .ok (.aload_n 0, 1) := dk_42 (dk_at dksX3_laysOpened_2 15 rfl rfl)
theorem dX3_laysOpened_61 : decode cX3_laysOpened 61 = .ok (.getfield 46, 3) := dk_180 0 46 (dk_at dksX3_laysOpened_2 16 rfl rfl)
theorem dX3_laysOpened_64 : decode cX3_laysOpened 64 = .ok (.iload_n 2, 1) := dk_28 (dk_at dksX3_laysOpened_2 19 rfl rfl)
theorem dX3_laysOpened_65 : decode cX3_laysOpened 65 = .ok (.iaload, 1) := dk_46 (dk_at dksX3_laysOpened_2 20 rfl rfl)
theorem dX3_laysOpened_66 : decode cX3_laysOpened 66 = .ok (.iconst 1, 1) := dk_4 (dk_at dksX3_laysOpened_2 21 rfl rfl)
theorem dX3_laysOpened_67 : decode cX3_laysOpened 67 = .ok (.bastore, 1) := dk_84 (dk_at dksX3_laysOpened_2 22 rfl rfl)
theorem dX3_laysOpened_68 : decode cX3_laysOpened 68 = .ok (.iinc 2 1, 3) := dk_132 2 1 (dk_at dksX3_laysOpened_3 0 rfl rfl)
theorem dX3_laysOpened_71 : decode cX3_laysOpened 71 = .ok (.goto (-40), 3) := dk_167 255 216 (dk_at dksX3_laysOpened_3 3 rfl rfl)
theorem dX3_laysOpened_74 : decode cX3_laysOpened 74 = .ok (.iconst 0, 1) := dk_3 (dk_at dksX3_laysOpened_3 6 rfl rfl)
theorem dX3_laysOpened_75 : decode cX3_laysOpened 75 = .ok (.istore_n 2, 1) := dk_61 (dk_at dksX3_laysOpened_3 7 rfl rfl)
theorem dX3_laysOpened_76 : decode cX3_laysOpened 76 = .ok (.iconst 1, 1) := dk_4 (dk_at dksX3_laysOpened_3 8 rfl rfl)
theorem dX3_laysOpened_77 : decode cX3_laysOpened 77 = .ok (.istore_n 3, 1) := dk_62 (dk_at dksX3_laysOpened_3 9 rfl rfl)
theorem dX3_laysOpened_78 : decode cX3_laysOpened 78 = .ok (.iload_n 3, 1) := dk_29 (dk_at dksX3_laysOpened_3 10 rfl rfl)
theorem dX3_laysOpened_79 : decode cX3_laysOpened 79 = .ok (.aload_n 0, 1) := dk_42 (dk_at dksX3_laysOpened_3 11 rfl rfl)
theorem dX3_laysOpened_80 : decode cX3_laysOpened 80 = .ok (.getfield 13, 3) := dk_180 0 13 (dk_at dksX3_laysOpened_3 12 rfl rfl)
theorem dX3_laysOpened_83 : decode cX3_laysOpened 83 = .ok (.iconst 0, 1) := dk_3 (dk_at dksX3_laysOpened_3 15 rfl rfl)
theorem dX3_laysOpened_84 : decode cX3_laysOpened 84 = .ok (.iaload, 1) := dk_46 (dk_at dksX3_laysOpened_3 16 rfl rfl)
theorem dX3_laysOpened_85 : decode cX3_laysOpened 85 = .ok (.if_icmp .gt 26, 3) := dk_163 0 26 (dk_at dksX3_laysOpened_3 17 rfl rfl)
theorem dX3_laysOpened_88 : decode cX3_laysOpened 88 = .ok (.iload_n 2, 1) := dk_28 (dk_at dksX3_laysOpened_3 20 rfl rfl)
theorem dX3_laysOpened_89 : decode cX3_laysOpened 89 = .ok (.aload_n 0, 1) := dk_42 (dk_at dksX3_laysOpened_3 21 rfl rfl)
theorem dX3_laysOpened_90 : decode cX3_laysOpened 90 = .ok (.getfield 70, 3) := dk_180 0 70 (dk_at dksX3_laysOpened_4 0 rfl rfl)
theorem dX3_laysOpened_93 : decode cX3_laysOpened 93 = .ok (.iload_n 3, 1) := dk_29 (dk_at dksX3_laysOpened_4 3 rfl rfl)
theorem dX3_laysOpened_94 : decode cX3_laysOpened 94 = .ok (.baload, 1) := dk_51 (dk_at dksX3_laysOpened_4 4 rfl rfl)
theorem dX3_laysOpened_95 : decode cX3_laysOpened 95 = .ok (.ifCond .eq 7, 3) := dk_153 0 7 (dk_at dksX3_laysOpened_4 5 rfl rfl)
theorem dX3_laysOpened_98 : decode cX3_laysOpened 98 = .ok (.iconst 1, 1) := dk_4 (dk_at dksX3_laysOpened_4 8 rfl rfl)
theorem dX3_laysOpened_99 : decode cX3_laysOpened 99 = .ok (.goto 4, 3) := dk_167 0 4 (dk_at dksX3_laysOpened_4 9 rfl rfl)
theorem dX3_laysOpened_102 : decode cX3_laysOpened 102 = .ok (.iconst 0, 1) := dk_3 (dk_at dksX3_laysOpened_4 12 rfl rfl)
theorem dX3_laysOpened_103 : decode cX3_laysOpened 103 = .ok (.iadd, 1) := dk_96 (dk_at dksX3_laysOpened_4 13 rfl rfl)
theorem dX3_laysOpened_104 : decode cX3_laysOpened 104 = .ok (.istore_n 2, 1) := dk_61 (dk_at dksX3_laysOpened_4 14 rfl rfl)
theorem dX3_laysOpened_105 : decode cX3_laysOpened 105 = .ok (.iinc 3 1, 3) := dk_132 3 1 (dk_at dksX3_laysOpened_4 15 rfl rfl)
theorem dX3_laysOpened_108 : decode cX3_laysOpened 108 = .ok (.goto (-30), 3) := dk_167 255 226 (dk_at dksX3_laysOpened_4 18 rfl rfl)
theorem dX3_laysOpened_111 : decode cX3_laysOpened 111 = .ok (.iload_n 2, 1) := dk_28 (dk_at dksX3_laysOpened_4 21 rfl rfl)
theorem dX3_laysOpened_112 : decode cX3_laysOpened 112 = .ok (.ireturn, 1) := dk_172 (dk_at dksX3_laysOpened_4 22 rfl rfl)
abbrev cX3_opensForMarked : ByteArray := prog_21_method_87_code
def yX3_opensForMarked : MethodName := ⟨RX3, "opensForMarked", "()I"⟩
def dkwX3_opensForMarked_3 : List UInt8 := [27, 172]
abbrev dktX3_opensForMarked_3 : List UInt8 := dkwX3_opensForMarked_3 ++ []
def dkwX3_opensForMarked_2 : List UInt8 := [182, 1, 10, 96, 60, 132, 2, 1, 167, 255, 223, 42, 180, 0, 17, 3, 42, 180, 0, 13, 3, 184, 0, 115]
abbrev dktX3_opensForMarked_2 : List UInt8 := dkwX3_opensForMarked_2 ++ dktX3_opensForMarked_3
def dkwX3_opensForMarked_1 : List UInt8 := [180, 0, 13, 3, 46, 163, 0, 29, 27, 42, 28, 182, 0, 183, 154, 0, 7, 3, 167, 0, 8, 42, 28]
abbrev dktX3_opensForMarked_1 : List UInt8 := dkwX3_opensForMarked_1 ++ dktX3_opensForMarked_2
def dkwX3_opensForMarked_0 : List UInt8 := [42, 3, 181, 0, 1, 42, 180, 0, 13, 3, 42, 180, 0, 17, 3, 184, 0, 115, 3, 60, 4, 61, 28, 42]
abbrev dktX3_opensForMarked_0 : List UInt8 := dkwX3_opensForMarked_0 ++ dktX3_opensForMarked_1
theorem dksX3_opensForMarked_0 : cX3_opensForMarked.data.toList.drop 0 = dktX3_opensForMarked_0 := by decide +kernel
theorem dksX3_opensForMarked_1 : cX3_opensForMarked.data.toList.drop 24 = dktX3_opensForMarked_1 := dk_seg dksX3_opensForMarked_0 24 rfl rfl
theorem dksX3_opensForMarked_2 : cX3_opensForMarked.data.toList.drop 47 = dktX3_opensForMarked_2 := dk_seg dksX3_opensForMarked_1 23 rfl rfl
theorem dksX3_opensForMarked_3 : cX3_opensForMarked.data.toList.drop 71 = dktX3_opensForMarked_3 := dk_seg dksX3_opensForMarked_2 24 rfl rfl
theorem dX3_opensForMarked_0 : decode cX3_opensForMarked 0 = .ok (.aload_n 0, 1) := dk_42 (dk_at dksX3_opensForMarked_0 0 rfl rfl)
theorem dX3_opensForMarked_1 : decode cX3_opensForMarked 1 = .ok (.iconst 0, 1) := dk_3 (dk_at dksX3_opensForMarked_0 1 rfl rfl)
theorem dX3_opensForMarked_2 : decode cX3_opensForMarked 2 = .ok (.putfield 1, 3) := dk_181 0 1 (dk_at dksX3_opensForMarked_0 2 rfl rfl)
theorem dX3_opensForMarked_5 : decode cX3_opensForMarked 5 = .ok (.aload_n 0, 1) := dk_42 (dk_at dksX3_opensForMarked_0 5 rfl rfl)
theorem dX3_opensForMarked_6 : decode cX3_opensForMarked 6 = .ok (.getfield 13, 3) := dk_180 0 13 (dk_at dksX3_opensForMarked_0 6 rfl rfl)
theorem dX3_opensForMarked_9 : decode cX3_opensForMarked 9 = .ok (.iconst 0, 1) := dk_3 (dk_at dksX3_opensForMarked_0 9 rfl rfl)
theorem dX3_opensForMarked_10 : decode cX3_opensForMarked 10 = .ok (.aload_n 0, 1) := dk_42 (dk_at dksX3_opensForMarked_0 10 rfl rfl)
theorem dX3_opensForMarked_11 : decode cX3_opensForMarked 11 = .ok (.getfield 17, 3) := dk_180 0 17 (dk_at dksX3_opensForMarked_0 11 rfl rfl)
theorem dX3_opensForMarked_14 : decode cX3_opensForMarked 14 = .ok (.iconst 0, 1) := dk_3 (dk_at dksX3_opensForMarked_0 14 rfl rfl)
theorem dX3_opensForMarked_15 : decode cX3_opensForMarked 15 = .ok (.invokestatic 115, 3) := dk_184 0 115 (dk_at dksX3_opensForMarked_0 15 rfl rfl)
theorem dX3_opensForMarked_18 : decode cX3_opensForMarked 18 = .ok (.iconst 0, 1) := dk_3 (dk_at dksX3_opensForMarked_0 18 rfl rfl)
theorem dX3_opensForMarked_19 : decode cX3_opensForMarked 19 = .ok (.istore_n 1, 1) := dk_60 (dk_at dksX3_opensForMarked_0 19 rfl rfl)
theorem dX3_opensForMarked_20 : decode cX3_opensForMarked 20 = .ok (.iconst 1, 1) := dk_4 (dk_at dksX3_opensForMarked_0 20 rfl rfl)
theorem dX3_opensForMarked_21 : decode cX3_opensForMarked 21 = .ok (.istore_n 2, 1) := dk_61 (dk_at dksX3_opensForMarked_0 21 rfl rfl)
theorem dX3_opensForMarked_22 : decode cX3_opensForMarked 22 = .ok (.iload_n 2, 1) := dk_28 (dk_at dksX3_opensForMarked_0 22 rfl rfl)
theorem dX3_opensForMarked_23 : decode cX3_opensForMarked 23 = .ok (.aload_n 0, 1) := dk_42 (dk_at dksX3_opensForMarked_0 23 rfl rfl)
theorem dX3_opensForMarked_24 : decode cX3_opensForMarked 24 = .ok (.getfield 13, 3) := dk_180 0 13 (dk_at dksX3_opensForMarked_1 0 rfl rfl)
theorem dX3_opensForMarked_27 : decode cX3_opensForMarked 27 = .ok (.iconst 0, 1) := dk_3 (dk_at dksX3_opensForMarked_1 3 rfl rfl)
theorem dX3_opensForMarked_28 : decode cX3_opensForMarked 28 = .ok (.iaload, 1) := dk_46 (dk_at dksX3_opensForMarked_1 4 rfl rfl)
theorem dX3_opensForMarked_29 : decode cX3_opensForMarked 29 = .ok (.if_icmp .gt 29, 3) := dk_163 0 29 (dk_at dksX3_opensForMarked_1 5 rfl rfl)
theorem dX3_opensForMarked_32 : decode cX3_opensForMarked 32 = .ok (.iload_n 1, 1) := dk_27 (dk_at dksX3_opensForMarked_1 8 rfl rfl)
theorem dX3_opensForMarked_33 : decode cX3_opensForMarked 33 = .ok (.aload_n 0, 1) := dk_42 (dk_at dksX3_opensForMarked_1 9 rfl rfl)
theorem dX3_opensForMarked_34 : decode cX3_opensForMarked 34 = .ok (.iload_n 2, 1) := dk_28 (dk_at dksX3_opensForMarked_1 10 rfl rfl)
theorem dX3_opensForMarked_35 : decode cX3_opensForMarked 35 = .ok (.invokevirtual 183, 3) := dk_182 0 183 (dk_at dksX3_opensForMarked_1 11 rfl rfl)
theorem dX3_opensForMarked_38 : decode cX3_opensForMarked 38 = .ok (.ifCond .ne 7, 3) := dk_154 0 7 (dk_at dksX3_opensForMarked_1 14 rfl rfl)
theorem dX3_opensForMarked_41 : decode cX3_opensForMarked 41 = .ok (.iconst 0, 1) := dk_3 (dk_at dksX3_opensForMarked_1 17 rfl rfl)
theorem dX3_opensForMarked_42 : decode cX3_opensForMarked 42 = .ok (.goto 8, 3) := dk_167 0 8 (dk_at dksX3_opensForMarked_1 18 rfl rfl)
theorem dX3_opensForMarked_45 : decode cX3_opensForMarked 45 = .ok (.aload_n 0, 1) := dk_42 (dk_at dksX3_opensForMarked_1 21 rfl rfl)
theorem dX3_opensForMarked_46 : decode cX3_opensForMarked 46 = .ok (.iload_n 2, 1) := dk_28 (dk_at dksX3_opensForMarked_1 22 rfl rfl)
theorem dX3_opensForMarked_47 : decode cX3_opensForMarked 47 = .ok (.invokevirtual 266, 3) := dk_182 1 10 (dk_at dksX3_opensForMarked_2 0 rfl rfl)
theorem dX3_opensForMarked_50 : decode cX3_opensForMarked 50 = .ok (.iadd, 1) := dk_96 (dk_at dksX3_opensForMarked_2 3 rfl rfl)
theorem dX3_opensForMarked_51 : decode cX3_opensForMarked 51 = .ok (.istore_n 1, 1) := dk_60 (dk_at dksX3_opensForMarked_2 4 rfl rfl)
theorem dX3_opensForMarked_52 : decode cX3_opensForMarked 52 = .ok (.iinc 2 1, 3) := dk_132 2 1 (dk_at dksX3_opensForMarked_2 5 rfl rfl)
theorem dX3_opensForMarked_55 : decode cX3_opensForMarked 55 = .ok (.goto (-33), 3) := dk_167 255 223 (dk_at dksX3_opensForMarked_2 8 rfl rfl)
theorem dX3_opensForMarked_58 : decode cX3_opensForMarked 58 = .ok (.aload_n 0, 1) := dk_42 (dk_at dksX3_opensForMarked_2 11 rfl rfl)
theorem dX3_opensForMarked_59 : decode cX3_opensForMarked 59 = .ok (.getfield 17, 3) := dk_180 0 17 (dk_at dksX3_opensForMarked_2 12 rfl rfl)
theorem dX3_opensForMarked_62 : decode cX3_opensForMarked 62 = .ok (.iconst 0, 1) := dk_3 (dk_at dksX3_opensForMarked_2 15 rfl rfl)
theorem dX3_opensForMarked_63 : decode cX3_opensForMarked 63 = .ok (.aload_n 0, 1) := dk_42 (dk_at dksX3_opensForMarked_2 16 rfl rfl)
theorem dX3_opensForMarked_64 : decode cX3_opensForMarked 64 = .ok (.getfield 13, 3) := dk_180 0 13 (dk_at dksX3_opensForMarked_2 17 rfl rfl)
theorem dX3_opensForMarked_67 : decode cX3_opensForMarked 67 = .ok (.iconst 0, 1) := dk_3 (dk_at dksX3_opensForMarked_2 20 rfl rfl)
theorem dX3_opensForMarked_68 : decode cX3_opensForMarked 68 = .ok (.invokestatic 115, 3) := dk_184 0 115 (dk_at dksX3_opensForMarked_2 21 rfl rfl)
theorem dX3_opensForMarked_71 : decode cX3_opensForMarked 71 = .ok (.iload_n 1, 1) := dk_27 (dk_at dksX3_opensForMarked_3 0 rfl rfl)
theorem dX3_opensForMarked_72 : decode cX3_opensForMarked 72 = .ok (.ireturn, 1) := dk_172 (dk_at dksX3_opensForMarked_3 1 rfl rfl)
abbrev cX3_shows : ByteArray := prog_21_method_89_code
def yX3_shows : MethodName := ⟨RX3, "shows", "(I)I"⟩
def dkwX3_shows_1 : List UInt8 := [153, 0, 15, 42, 180, 0, 13, 29, 184, 0, 125, 4, 96, 3, 79, 132, 3, 1, 167, 255, 222, 28, 172]
abbrev dktX3_shows_1 : List UInt8 := dkwX3_shows_1 ++ []
def dkwX3_shows_0 : List UInt8 := [42, 27, 182, 1, 7, 61, 4, 62, 29, 42, 180, 0, 13, 3, 46, 163, 0, 30, 42, 180, 0, 70, 29, 51]
abbrev dktX3_shows_0 : List UInt8 := dkwX3_shows_0 ++ dktX3_shows_1
theorem dksX3_shows_0 : cX3_shows.data.toList.drop 0 = dktX3_shows_0 := by decide +kernel
theorem dksX3_shows_1 : cX3_shows.data.toList.drop 24 = dktX3_shows_1 := dk_seg dksX3_shows_0 24 rfl rfl
theorem dX3_shows_0 : decode cX3_shows 0 = .ok (.aload_n 0, 1) := dk_42 (dk_at dksX3_shows_0 0 rfl rfl)
theorem dX3_shows_1 : decode cX3_shows 1 = .ok (.iload_n 1, 1) := dk_27 (dk_at dksX3_shows_0 1 rfl rfl)
theorem dX3_shows_2 : decode cX3_shows 2 = .ok (.invokevirtual 263, 3) := dk_182 1 7 (dk_at dksX3_shows_0 2 rfl rfl)
theorem dX3_shows_5 : decode cX3_shows 5 = .ok (.istore_n 2, 1) := dk_61 (dk_at dksX3_shows_0 5 rfl rfl)
theorem dX3_shows_6 : decode cX3_shows 6 = .ok (.iconst 1, 1) := dk_4 (dk_at dksX3_shows_0 6 rfl rfl)
theorem dX3_shows_7 : decode cX3_shows 7 = .ok (.istore_n 3, 1) := dk_62 (dk_at dksX3_shows_0 7 rfl rfl)
theorem dX3_shows_8 : decode cX3_shows 8 = .ok (.iload_n 3, 1) := dk_29 (dk_at dksX3_shows_0 8 rfl rfl)
theorem dX3_shows_9 : decode cX3_shows 9 = .ok (.aload_n 0, 1) := dk_42 (dk_at dksX3_shows_0 9 rfl rfl)
theorem dX3_shows_10 : decode cX3_shows 10 = .ok (.getfield 13, 3) := dk_180 0 13 (dk_at dksX3_shows_0 10 rfl rfl)
theorem dX3_shows_13 : decode cX3_shows 13 = .ok (.iconst 0, 1) := dk_3 (dk_at dksX3_shows_0 13 rfl rfl)
theorem dX3_shows_14 : decode cX3_shows 14 = .ok (.iaload, 1) := dk_46 (dk_at dksX3_shows_0 14 rfl rfl)
theorem dX3_shows_15 : decode cX3_shows 15 = .ok (.if_icmp .gt 30, 3) := dk_163 0 30 (dk_at dksX3_shows_0 15 rfl rfl)
theorem dX3_shows_18 : decode cX3_shows 18 = .ok (.aload_n 0, 1) := dk_42 (dk_at dksX3_shows_0 18 rfl rfl)
theorem dX3_shows_19 : decode cX3_shows 19 = .ok (.getfield 70, 3) := dk_180 0 70 (dk_at dksX3_shows_0 19 rfl rfl)
theorem dX3_shows_22 : decode cX3_shows 22 = .ok (.iload_n 3, 1) := dk_29 (dk_at dksX3_shows_0 22 rfl rfl)
theorem dX3_shows_23 : decode cX3_shows 23 = .ok (.baload, 1) := dk_51 (dk_at dksX3_shows_0 23 rfl rfl)
theorem dX3_shows_24 : decode cX3_shows 24 = .ok (.ifCond .eq 15, 3) := dk_153 0 15 (dk_at dksX3_shows_1 0 rfl rfl)
theorem dX3_shows_27 : decode cX3_shows 27 = .ok (.aload_n 0, 1) := dk_42 (dk_at dksX3_shows_1 3 rfl rfl)
theorem dX3_shows_28 : decode cX3_shows 28 = .ok (.getfield 13, 3) := dk_180 0 13 (dk_at dksX3_shows_1 4 rfl rfl)
theorem dX3_shows_31 : decode cX3_shows 31 = .ok (.iload_n 3, 1) := dk_29 (dk_at dksX3_shows_1 7 rfl rfl)
theorem dX3_shows_32 : decode cX3_shows 32 = .ok (.invokestatic 125, 3) := dk_184 0 125 (dk_at dksX3_shows_1 8 rfl rfl)
theorem dX3_shows_35 : decode cX3_shows 35 = .ok (.iconst 1, 1) := dk_4 (dk_at dksX3_shows_1 11 rfl rfl)
theorem dX3_shows_36 : decode cX3_shows 36 = .ok (.iadd, 1) := dk_96 (dk_at dksX3_shows_1 12 rfl rfl)
theorem dX3_shows_37 : decode cX3_shows 37 = .ok (.iconst 0, 1) := dk_3 (dk_at dksX3_shows_1 13 rfl rfl)
theorem dX3_shows_38 : decode cX3_shows 38 = .ok (.iastore, 1) := dk_79 (dk_at dksX3_shows_1 14 rfl rfl)
theorem dX3_shows_39 : decode cX3_shows 39 = .ok (.iinc 3 1, 3) := dk_132 3 1 (dk_at dksX3_shows_1 15 rfl rfl)
theorem dX3_shows_42 : decode cX3_shows 42 = .ok (.goto (-34), 3) := dk_167 255 222 (dk_at dksX3_shows_1 18 rfl rfl)
theorem dX3_shows_45 : decode cX3_shows 45 = .ok (.iload_n 2, 1) := dk_28 (dk_at dksX3_shows_1 21 rfl rfl)
theorem dX3_shows_46 : decode cX3_shows 46 = .ok (.ireturn, 1) := dk_172 (dk_at dksX3_shows_1 22 rfl rfl)
abbrev cX3_bestClose : ByteArray := prog_21_method_88_code
def yX3_bestClose : MethodName := ⟨RX3, "bestClose", "()I"⟩
def dkwX3_bestClose_2 : List UInt8 := [182, 0, 195, 61, 132, 3, 1, 167, 255, 219, 27, 172]
abbrev dktX3_bestClose_2 : List UInt8 := dkwX3_bestClose_2 ++ []
def dkwX3_bestClose_1 : List UInt8 := [46, 163, 0, 33, 42, 29, 4, 182, 0, 164, 42, 182, 0, 195, 28, 161, 0, 6, 167, 0, 10, 29, 60, 42]
abbrev dktX3_bestClose_1 : List UInt8 := dkwX3_bestClose_1 ++ dktX3_bestClose_2
def dkwX3_bestClose_0 : List UInt8 := [42, 3, 181, 0, 1, 42, 182, 0, 174, 3, 60, 42, 182, 0, 195, 61, 4, 62, 29, 42, 180, 0, 13, 3]
abbrev dktX3_bestClose_0 : List UInt8 := dkwX3_bestClose_0 ++ dktX3_bestClose_1
theorem dksX3_bestClose_0 : cX3_bestClose.data.toList.drop 0 = dktX3_bestClose_0 := by decide +kernel
theorem dksX3_bestClose_1 : cX3_bestClose.data.toList.drop 24 = dktX3_bestClose_1 := dk_seg dksX3_bestClose_0 24 rfl rfl
theorem dksX3_bestClose_2 : cX3_bestClose.data.toList.drop 48 = dktX3_bestClose_2 := dk_seg dksX3_bestClose_1 24 rfl rfl
theorem dX3_bestClose_0 : decode cX3_bestClose 0 = .ok (.aload_n 0, 1) := dk_42 (dk_at dksX3_bestClose_0 0 rfl rfl)
theorem dX3_bestClose_1 : decode cX3_bestClose 1 = .ok (.iconst 0, 1) := dk_3 (dk_at dksX3_bestClose_0 1 rfl rfl)
theorem dX3_bestClose_2 : decode cX3_bestClose 2 = .ok (.putfield 1, 3) := dk_181 0 1 (dk_at dksX3_bestClose_0 2 rfl rfl)
theorem dX3_bestClose_5 : decode cX3_bestClose 5 = .ok (.aload_n 0, 1) := dk_42 (dk_at dksX3_bestClose_0 5 rfl rfl)
theorem dX3_bestClose_6 : decode cX3_bestClose 6 = .ok (.invokevirtual 174, 3) := dk_182 0 174 (dk_at dksX3_bestClose_0 6 rfl rfl)
theorem dX3_bestClose_9 : decode cX3_bestClose 9 = .ok (.iconst 0, 1) := dk_3 (dk_at dksX3_bestClose_0 9 rfl rfl)
theorem dX3_bestClose_10 : decode cX3_bestClose 10 = .ok (.istore_n 1, 1) := dk_60 (dk_at dksX3_bestClose_0 10 rfl rfl)
theorem dX3_bestClose_11 : decode cX3_bestClose 11 = .ok (.aload_n 0, 1) := dk_42 (dk_at dksX3_bestClose_0 11 rfl rfl)
theorem dX3_bestClose_12 : decode cX3_bestClose 12 = .ok (.invokevirtual 195, 3) := dk_182 0 195 (dk_at dksX3_bestClose_0 12 rfl rfl)
theorem dX3_bestClose_15 : decode cX3_bestClose 15 = .ok (.istore_n 2, 1) := dk_61 (dk_at dksX3_bestClose_0 15 rfl rfl)
theorem dX3_bestClose_16 : decode cX3_bestClose 16 = .ok (.iconst 1, 1) := dk_4 (dk_at dksX3_bestClose_0 16 rfl rfl)
theorem dX3_bestClose_17 : decode cX3_bestClose 17 = .ok (.istore_n 3, 1) := dk_62 (dk_at dksX3_bestClose_0 17 rfl rfl)
theorem dX3_bestClose_18 : decode cX3_bestClose 18 = .ok (.iload_n 3, 1) := dk_29 (dk_at dksX3_bestClose_0 18 rfl rfl)
theorem dX3_bestClose_19 : decode cX3_bestClose 19 = .ok (.aload_n 0, 1) := dk_42 (dk_at dksX3_bestClose_0 19 rfl rfl)
theorem dX3_bestClose_20 : decode cX3_bestClose 20 = .ok (.getfield 13, 3) := dk_180 0 13 (dk_at dksX3_bestClose_0 20 rfl rfl)
theorem dX3_bestClose_23 : decode cX3_bestClose 23 = .ok (.iconst 0, 1) := dk_3 (dk_at dksX3_bestClose_0 23 rfl rfl)
theorem dX3_bestClose_24 : decode cX3_bestClose 24 = .ok (.iaload, 1) := dk_46 (dk_at dksX3_bestClose_1 0 rfl rfl)
theorem dX3_bestClose_25 : decode cX3_bestClose 25 = .ok (.if_icmp .gt 33, 3) := dk_163 0 33 (dk_at dksX3_bestClose_1 1 rfl rfl)
theorem dX3_bestClose_28 : decode cX3_bestClose 28 = .ok (.aload_n 0, 1) := dk_42 (dk_at dksX3_bestClose_1 4 rfl rfl)
theorem dX3_bestClose_29 : decode cX3_bestClose 29 = .ok (.iload_n 3, 1) := dk_29 (dk_at dksX3_bestClose_1 5 rfl rfl)
theorem dX3_bestClose_30 : decode cX3_bestClose 30 = .ok (.iconst 1, 1) := dk_4 (dk_at dksX3_bestClose_1 6 rfl rfl)
theorem dX3_bestClose_31 : decode cX3_bestClose 31 = .ok (.invokevirtual 164, 3) := dk_182 0 164 (dk_at dksX3_bestClose_1 7 rfl rfl)
theorem dX3_bestClose_34 : decode cX3_bestClose 34 = .ok (.aload_n 0, 1) := dk_42 (dk_at dksX3_bestClose_1 10 rfl rfl)
theorem dX3_bestClose_35 : decode cX3_bestClose 35 = .ok (.invokevirtual 195, 3) := dk_182 0 195 (dk_at dksX3_bestClose_1 11 rfl rfl)
theorem dX3_bestClose_38 : decode cX3_bestClose 38 = .ok (.iload_n 2, 1) := dk_28 (dk_at dksX3_bestClose_1 14 rfl rfl)
theorem dX3_bestClose_39 : decode cX3_bestClose 39 = .ok (.if_icmp .lt 6, 3) := dk_161 0 6 (dk_at dksX3_bestClose_1 15 rfl rfl)
theorem dX3_bestClose_42 : decode cX3_bestClose 42 = .ok (.goto 10, 3) := dk_167 0 10 (dk_at dksX3_bestClose_1 18 rfl rfl)
theorem dX3_bestClose_45 : decode cX3_bestClose 45 = .ok (.iload_n 3, 1) := dk_29 (dk_at dksX3_bestClose_1 21 rfl rfl)
theorem dX3_bestClose_46 : decode cX3_bestClose 46 = .ok (.istore_n 1, 1) := dk_60 (dk_at dksX3_bestClose_1 22 rfl rfl)
theorem dX3_bestClose_47 : decode cX3_bestClose 47 = .ok (.aload_n 0, 1) := dk_42 (dk_at dksX3_bestClose_1 23 rfl rfl)
theorem dX3_bestClose_48 : decode cX3_bestClose 48 = .ok (.invokevirtual 195, 3) := dk_182 0 195 (dk_at dksX3_bestClose_2 0 rfl rfl)
theorem dX3_bestClose_51 : decode cX3_bestClose 51 = .ok (.istore_n 2, 1) := dk_61 (dk_at dksX3_bestClose_2 3 rfl rfl)
theorem dX3_bestClose_52 : decode cX3_bestClose 52 = .ok (.iinc 3 1, 3) := dk_132 3 1 (dk_at dksX3_bestClose_2 4 rfl rfl)
theorem dX3_bestClose_55 : decode cX3_bestClose 55 = .ok (.goto (-37), 3) := dk_167 255 219 (dk_at dksX3_bestClose_2 7 rfl rfl)
theorem dX3_bestClose_58 : decode cX3_bestClose 58 = .ok (.iload_n 1, 1) := dk_27 (dk_at dksX3_bestClose_2 10 rfl rfl)
theorem dX3_bestClose_59 : decode cX3_bestClose 59 = .ok (.ireturn, 1) := dk_172 (dk_at dksX3_bestClose_2 11 rfl rfl)
abbrev cX3_rowIf : ByteArray := prog_21_method_90_code
def yX3_rowIf : MethodName := ⟨RX3, "rowIf", "(I)I"⟩
def dkwX3_rowIf_2 : List UInt8 := [42, 180, 0, 13, 3, 184, 0, 115, 29, 172]
abbrev dktX3_rowIf_2 : List UInt8 := dkwX3_rowIf_2 ++ []
def dkwX3_rowIf_1 : List UInt8 := [184, 0, 115, 42, 27, 182, 1, 10, 61, 42, 182, 0, 174, 42, 27, 182, 0, 177, 62, 42, 180, 0, 17, 3]
abbrev dktX3_rowIf_1 : List UInt8 := dkwX3_rowIf_1 ++ dktX3_rowIf_2
def dkwX3_rowIf_0 : List UInt8 := [42, 42, 27, 182, 0, 167, 182, 0, 111, 154, 0, 5, 3, 172, 42, 180, 0, 13, 3, 42, 180, 0, 17, 3]
abbrev dktX3_rowIf_0 : List UInt8 := dkwX3_rowIf_0 ++ dktX3_rowIf_1
theorem dksX3_rowIf_0 : cX3_rowIf.data.toList.drop 0 = dktX3_rowIf_0 := by decide +kernel
theorem dksX3_rowIf_1 : cX3_rowIf.data.toList.drop 24 = dktX3_rowIf_1 := dk_seg dksX3_rowIf_0 24 rfl rfl
theorem dksX3_rowIf_2 : cX3_rowIf.data.toList.drop 48 = dktX3_rowIf_2 := dk_seg dksX3_rowIf_1 24 rfl rfl
theorem dX3_rowIf_0 : decode cX3_rowIf 0 = .ok (.aload_n 0, 1) := dk_42 (dk_at dksX3_rowIf_0 0 rfl rfl)
theorem dX3_rowIf_1 : decode cX3_rowIf 1 = .ok (.aload_n 0, 1) := dk_42 (dk_at dksX3_rowIf_0 1 rfl rfl)
theorem dX3_rowIf_2 : decode cX3_rowIf 2 = .ok (.iload_n 1, 1) := dk_27 (dk_at dksX3_rowIf_0 2 rfl rfl)
theorem dX3_rowIf_3 : decode cX3_rowIf 3 = .ok (.invokevirtual 167, 3) := dk_182 0 167 (dk_at dksX3_rowIf_0 3 rfl rfl)
theorem dX3_rowIf_6 : decode cX3_rowIf 6 = .ok (.invokevirtual 111, 3) := dk_182 0 111 (dk_at dksX3_rowIf_0 6 rfl rfl)
theorem dX3_rowIf_9 : decode cX3_rowIf 9 = .ok (.ifCond .ne 5, 3) := dk_154 0 5 (dk_at dksX3_rowIf_0 9 rfl rfl)
theorem dX3_rowIf_12 : decode cX3_rowIf 12 = .ok (.iconst 0, 1) := dk_3 (dk_at dksX3_rowIf_0 12 rfl rfl)
theorem dX3_rowIf_13 : decode cX3_rowIf 13 = .ok (.ireturn, 1) := dk_172 (dk_at dksX3_rowIf_0 13 rfl rfl)
theorem dX3_rowIf_14 : decode cX3_rowIf 14 = .ok (.aload_n 0, 1) := dk_42 (dk_at dksX3_rowIf_0 14 rfl rfl)
theorem dX3_rowIf_15 : decode cX3_rowIf 15 = .ok (.getfield 13, 3) := dk_180 0 13 (dk_at dksX3_rowIf_0 15 rfl rfl)
theorem dX3_rowIf_18 : decode cX3_rowIf 18 = .ok (.iconst 0, 1) := dk_3 (dk_at dksX3_rowIf_0 18 rfl rfl)
theorem dX3_rowIf_19 : decode cX3_rowIf 19 = .ok (.aload_n 0, 1) := dk_42 (dk_at dksX3_rowIf_0 19 rfl rfl)
theorem dX3_rowIf_20 : decode cX3_rowIf 20 = .ok (.getfield 17, 3) := dk_180 0 17 (dk_at dksX3_rowIf_0 20 rfl rfl)
theorem dX3_rowIf_23 : decode cX3_rowIf 23 = .ok (.iconst 0, 1) := dk_3 (dk_at dksX3_rowIf_0 23 rfl rfl)
theorem dX3_rowIf_24 : decode cX3_rowIf 24 = .ok (.invokestatic 115, 3) := dk_184 0 115 (dk_at dksX3_rowIf_1 0 rfl rfl)
theorem dX3_rowIf_27 : decode cX3_rowIf 27 = .ok (.aload_n 0, 1) := dk_42 (dk_at dksX3_rowIf_1 3 rfl rfl)
theorem dX3_rowIf_28 : decode cX3_rowIf 28 = .ok (.iload_n 1, 1) := dk_27 (dk_at dksX3_rowIf_1 4 rfl rfl)
theorem dX3_rowIf_29 : decode cX3_rowIf 29 = .ok (.invokevirtual 266, 3) := dk_182 1 10 (dk_at dksX3_rowIf_1 5 rfl rfl)
theorem dX3_rowIf_32 : decode cX3_rowIf 32 = .ok (.istore_n 2, 1) := dk_61 (dk_at dksX3_rowIf_1 8 rfl rfl)
theorem dX3_rowIf_33 : decode cX3_rowIf 33 = .ok (.aload_n 0, 1) := dk_42 (dk_at dksX3_rowIf_1 9 rfl rfl)
theorem dX3_rowIf_34 : decode cX3_rowIf 34 = .ok (.invokevirtual 174, 3) := dk_182 0 174 (dk_at dksX3_rowIf_1 10 rfl rfl)
theorem dX3_rowIf_37 : decode cX3_rowIf 37 = .ok (.aload_n 0, 1) := dk_42 (dk_at dksX3_rowIf_1 13 rfl rfl)
theorem dX3_rowIf_38 : decode cX3_rowIf 38 = .ok (.iload_n 1, 1) := dk_27 (dk_at dksX3_rowIf_1 14 rfl rfl)
theorem dX3_rowIf_39 : decode cX3_rowIf 39 = .ok (.invokevirtual 177, 3) := dk_182 0 177 (dk_at dksX3_rowIf_1 15 rfl rfl)
theorem dX3_rowIf_42 : decode cX3_rowIf 42 = .ok (.istore_n 3, 1) := dk_62 (dk_at dksX3_rowIf_1 18 rfl rfl)
theorem dX3_rowIf_43 : decode cX3_rowIf 43 = .ok (.aload_n 0, 1) := dk_42 (dk_at dksX3_rowIf_1 19 rfl rfl)
theorem dX3_rowIf_44 : decode cX3_rowIf 44 = .ok (.getfield 17, 3) := dk_180 0 17 (dk_at dksX3_rowIf_1 20 rfl rfl)
theorem dX3_rowIf_47 : decode cX3_rowIf 47 = .ok (.iconst 0, 1) := dk_3 (dk_at dksX3_rowIf_1 23 rfl rfl)
theorem dX3_rowIf_48 : decode cX3_rowIf 48 = .ok (.aload_n 0, 1) := dk_42 (dk_at dksX3_rowIf_2 0 rfl rfl)
theorem dX3_rowIf_49 : decode cX3_rowIf 49 = .ok (.getfield 13, 3) := dk_180 0 13 (dk_at dksX3_rowIf_2 1 rfl rfl)
theorem dX3_rowIf_52 : decode cX3_rowIf 52 = .ok (.iconst 0, 1) := dk_3 (dk_at dksX3_rowIf_2 4 rfl rfl)
theorem dX3_rowIf_53 : decode cX3_rowIf 53 = .ok (.invokestatic 115, 3) := dk_184 0 115 (dk_at dksX3_rowIf_2 5 rfl rfl)
theorem dX3_rowIf_56 : decode cX3_rowIf 56 = .ok (.iload_n 3, 1) := dk_29 (dk_at dksX3_rowIf_2 8 rfl rfl)
theorem dX3_rowIf_57 : decode cX3_rowIf 57 = .ok (.ireturn, 1) := dk_172 (dk_at dksX3_rowIf_2 9 rfl rfl)
abbrev cX3_steps : ByteArray := prog_21_method_91_code
def yX3_steps : MethodName := ⟨RX3, "steps", "(II)I"⟩
def dkwX3_steps_3 : List UInt8 := [167, 255, 222, 2, 172]
abbrev dktX3_steps_3 : List UInt8 := dkwX3_steps_3 ++ []
def dkwX3_steps_2 : List UInt8 := [29, 28, 160, 0, 6, 21, 4, 172, 42, 29, 182, 1, 1, 62, 29, 157, 0, 5, 2, 172, 132, 4, 1]
abbrev dktX3_steps_2 : List UInt8 := dkwX3_steps_2 ++ dktX3_steps_3
def dkwX3_steps_1 : List UInt8 := [182, 0, 111, 154, 0, 5, 3, 172, 27, 62, 3, 54, 4, 21, 4, 42, 180, 0, 13, 3, 46, 163, 0, 29]
abbrev dktX3_steps_1 : List UInt8 := dkwX3_steps_1 ++ dktX3_steps_2
def dkwX3_steps_0 : List UInt8 := [42, 42, 27, 182, 0, 167, 153, 0, 15, 42, 28, 182, 0, 167, 153, 0, 7, 4, 167, 0, 4, 3]
abbrev dktX3_steps_0 : List UInt8 := dkwX3_steps_0 ++ dktX3_steps_1
theorem dksX3_steps_0 : cX3_steps.data.toList.drop 0 = dktX3_steps_0 := by decide +kernel
theorem dksX3_steps_1 : cX3_steps.data.toList.drop 22 = dktX3_steps_1 := dk_seg dksX3_steps_0 22 rfl rfl
theorem dksX3_steps_2 : cX3_steps.data.toList.drop 46 = dktX3_steps_2 := dk_seg dksX3_steps_1 24 rfl rfl
theorem dksX3_steps_3 : cX3_steps.data.toList.drop 69 = dktX3_steps_3 := dk_seg dksX3_steps_2 23 rfl rfl
theorem dX3_steps_0 : decode cX3_steps 0 = .ok (.aload_n 0, 1) := dk_42 (dk_at dksX3_steps_0 0 rfl rfl)
theorem dX3_steps_1 : decode cX3_steps 1 = .ok (.aload_n 0, 1) := dk_42 (dk_at dksX3_steps_0 1 rfl rfl)
theorem dX3_steps_2 : decode cX3_steps 2 = .ok (.iload_n 1, 1) := dk_27 (dk_at dksX3_steps_0 2 rfl rfl)
theorem dX3_steps_3 : decode cX3_steps 3 = .ok (.invokevirtual 167, 3) := dk_182 0 167 (dk_at dksX3_steps_0 3 rfl rfl)
theorem dX3_steps_6 : decode cX3_steps 6 = .ok (.ifCond .eq 15, 3) := dk_153 0 15 (dk_at dksX3_steps_0 6 rfl rfl)
theorem dX3_steps_9 : decode cX3_steps 9 = .ok (.aload_n 0, 1) := dk_42 (dk_at dksX3_steps_0 9 rfl rfl)
theorem dX3_steps_10 : decode cX3_steps 10 = .ok (.iload_n 2, 1) := dk_28 (dk_at dksX3_steps_0 10 rfl rfl)
theorem dX3_steps_11 : decode cX3_steps 11 = .ok (.invokevirtual 167, 3) := dk_182 0 167 (dk_at dksX3_steps_0 11 rfl rfl)
theorem dX3_steps_14 : decode cX3_steps 14 = .ok (.ifCond .eq 7, 3) := dk_153 0 7 (dk_at dksX3_steps_0 14 rfl rfl)
theorem dX3_steps_17 : decode cX3_steps 17 = .ok (.iconst 1, 1) := dk_4 (dk_at dksX3_steps_0 17 rfl rfl)
theorem dX3_steps_18 : decode cX3_steps 18 = .ok (.goto 4, 3) := dk_167 0 4 (dk_at dksX3_steps_0 18 rfl rfl)
theorem dX3_steps_21 : decode cX3_steps 21 = .ok (.iconst 0, 1) := dk_3 (dk_at dksX3_steps_0 21 rfl rfl)
theorem dX3_steps_22 : decode cX3_steps 22 = .ok (.invokevirtual 111, 3) := dk_182 0 111 (dk_at dksX3_steps_1 0 rfl rfl)
theorem dX3_steps_25 : decode cX3_steps 25 = .ok (.ifCond .ne 5, 3) := dk_154 0 5 (dk_at dksX3_steps_1 3 rfl rfl)
theorem dX3_steps_28 : decode cX3_steps 28 = .ok (.iconst 0, 1) := dk_3 (dk_at dksX3_steps_1 6 rfl rfl)
theorem dX3_steps_29 : decode cX3_steps 29 = .ok (.ireturn, 1) := dk_172 (dk_at dksX3_steps_1 7 rfl rfl)
theorem dX3_steps_30 : decode cX3_steps 30 = .ok (.iload_n 1, 1) := dk_27 (dk_at dksX3_steps_1 8 rfl rfl)
theorem dX3_steps_31 : decode cX3_steps 31 = .ok (.istore_n 3, 1) := dk_62 (dk_at dksX3_steps_1 9 rfl rfl)
theorem dX3_steps_32 : decode cX3_steps 32 = .ok (.iconst 0, 1) := dk_3 (dk_at dksX3_steps_1 10 rfl rfl)
theorem dX3_steps_33 : decode cX3_steps 33 = .ok (.istore 4, 2) := dk_54 4 (dk_at dksX3_steps_1 11 rfl rfl)
theorem dX3_steps_35 : decode cX3_steps 35 = .ok (.iload 4, 2) := dk_21 4 (dk_at dksX3_steps_1 13 rfl rfl)
theorem dX3_steps_37 : decode cX3_steps 37 = .ok (.aload_n 0, 1) := dk_42 (dk_at dksX3_steps_1 15 rfl rfl)
theorem dX3_steps_38 : decode cX3_steps 38 = .ok (.getfield 13, 3) := dk_180 0 13 (dk_at dksX3_steps_1 16 rfl rfl)
theorem dX3_steps_41 : decode cX3_steps 41 = .ok (.iconst 0, 1) := dk_3 (dk_at dksX3_steps_1 19 rfl rfl)
theorem dX3_steps_42 : decode cX3_steps 42 = .ok (.iaload, 1) := dk_46 (dk_at dksX3_steps_1 20 rfl rfl)
theorem dX3_steps_43 : decode cX3_steps 43 = .ok (.if_icmp .gt 29, 3) := dk_163 0 29 (dk_at dksX3_steps_1 21 rfl rfl)
theorem dX3_steps_46 : decode cX3_steps 46 = .ok (.iload_n 3, 1) := dk_29 (dk_at dksX3_steps_2 0 rfl rfl)
theorem dX3_steps_47 : decode cX3_steps 47 = .ok (.iload_n 2, 1) := dk_28 (dk_at dksX3_steps_2 1 rfl rfl)
theorem dX3_steps_48 : decode cX3_steps 48 = .ok (.if_icmp .ne 6, 3) := dk_160 0 6 (dk_at dksX3_steps_2 2 rfl rfl)
theorem dX3_steps_51 : decode cX3_steps 51 = .ok (.iload 4, 2) := dk_21 4 (dk_at dksX3_steps_2 5 rfl rfl)
theorem dX3_steps_53 : decode cX3_steps 53 = .ok (.ireturn, 1) := dk_172 (dk_at dksX3_steps_2 7 rfl rfl)
theorem dX3_steps_54 : decode cX3_steps 54 = .ok (.aload_n 0, 1) := dk_42 (dk_at dksX3_steps_2 8 rfl rfl)
theorem dX3_steps_55 : decode cX3_steps 55 = .ok (.iload_n 3, 1) := dk_29 (dk_at dksX3_steps_2 9 rfl rfl)
theorem dX3_steps_56 : decode cX3_steps 56 = .ok (.invokevirtual 257, 3) := dk_182 1 1 (dk_at dksX3_steps_2 10 rfl rfl)
theorem dX3_steps_59 : decode cX3_steps 59 = .ok (.istore_n 3, 1) := dk_62 (dk_at dksX3_steps_2 13 rfl rfl)
theorem dX3_steps_60 : decode cX3_steps 60 = .ok (.iload_n 3, 1) := dk_29 (dk_at dksX3_steps_2 14 rfl rfl)
theorem dX3_steps_61 : decode cX3_steps 61 = .ok (.ifCond .gt 5, 3) := dk_157 0 5 (dk_at dksX3_steps_2 15 rfl rfl)
theorem dX3_steps_64 : decode cX3_steps 64 = .ok (.iconst (-1), 1) := dk_2 (dk_at dksX3_steps_2 18 rfl rfl)
theorem dX3_steps_65 : decode cX3_steps 65 = .ok (.ireturn, 1) := dk_172 (dk_at dksX3_steps_2 19 rfl rfl)
theorem dX3_steps_66 : decode cX3_steps 66 = .ok (.iinc 4 1, 3) := dk_132 4 1 (dk_at dksX3_steps_2 20 rfl rfl)
theorem dX3_steps_69 : decode cX3_steps 69 = .ok (.goto (-34), 3) := dk_167 255 222 (dk_at dksX3_steps_3 0 rfl rfl)
theorem dX3_steps_72 : decode cX3_steps 72 = .ok (.iconst (-1), 1) := dk_2 (dk_at dksX3_steps_3 3 rfl rfl)
theorem dX3_steps_73 : decode cX3_steps 73 = .ok (.ireturn, 1) := dk_172 (dk_at dksX3_steps_3 4 rfl rfl)
abbrev cX3_writeLine : ByteArray := prog_21_method_95_code
def yX3_writeLine : MethodName := ⟨RX3, "writeLine", "(I)I"⟩
def dkwX3_writeLine_1 : List UInt8 := [27, 182, 1, 22, 42, 180, 1, 13, 172]
abbrev dktX3_writeLine_1 : List UInt8 := dkwX3_writeLine_1 ++ []
def dkwX3_writeLine_0 : List UInt8 := [42, 42, 27, 182, 0, 167, 182, 0, 111, 154, 0, 5, 3, 172, 42, 182, 0, 174, 42, 3, 181, 1, 13, 42]
abbrev dktX3_writeLine_0 : List UInt8 := dkwX3_writeLine_0 ++ dktX3_writeLine_1
theorem dksX3_writeLine_0 : cX3_writeLine.data.toList.drop 0 = dktX3_writeLine_0 := by decide +kernel
theorem dksX3_writeLine_1 : cX3_writeLine.data.toList.drop 24 = dktX3_writeLine_1 := dk_seg dksX3_writeLine_0 24 rfl rfl
theorem dX3_writeLine_0 : decode cX3_writeLine 0 = .ok (.aload_n 0, 1) := dk_42 (dk_at dksX3_writeLine_0 0 rfl rfl)
theorem dX3_writeLine_1 : decode cX3_writeLine 1 = .ok (.aload_n 0, 1) := dk_42 (dk_at dksX3_writeLine_0 1 rfl rfl)
theorem dX3_writeLine_2 : decode cX3_writeLine 2 = .ok (.iload_n 1, 1) := dk_27 (dk_at dksX3_writeLine_0 2 rfl rfl)
theorem dX3_writeLine_3 : decode cX3_writeLine 3 = .ok (.invokevirtual 167, 3) := dk_182 0 167 (dk_at dksX3_writeLine_0 3 rfl rfl)
theorem dX3_writeLine_6 : decode cX3_writeLine 6 = .ok (.invokevirtual 111, 3) := dk_182 0 111 (dk_at dksX3_writeLine_0 6 rfl rfl)
theorem dX3_writeLine_9 : decode cX3_writeLine 9 = .ok (.ifCond .ne 5, 3) := dk_154 0 5 (dk_at dksX3_writeLine_0 9 rfl rfl)
theorem dX3_writeLine_12 : decode cX3_writeLine 12 = .ok (.iconst 0, 1) := dk_3 (dk_at dksX3_writeLine_0 12 rfl rfl)
theorem dX3_writeLine_13 : decode cX3_writeLine 13 = .ok (.ireturn, 1) := dk_172 (dk_at dksX3_writeLine_0 13 rfl rfl)
theorem dX3_writeLine_14 : decode cX3_writeLine 14 = .ok (.aload_n 0, 1) := dk_42 (dk_at dksX3_writeLine_0 14 rfl rfl)
theorem dX3_writeLine_15 : decode cX3_writeLine 15 = .ok (.invokevirtual 174, 3) := dk_182 0 174 (dk_at dksX3_writeLine_0 15 rfl rfl)
theorem dX3_writeLine_18 : decode cX3_writeLine 18 = .ok (.aload_n 0, 1) := dk_42 (dk_at dksX3_writeLine_0 18 rfl rfl)
theorem dX3_writeLine_19 : decode cX3_writeLine 19 = .ok (.iconst 0, 1) := dk_3 (dk_at dksX3_writeLine_0 19 rfl rfl)
theorem dX3_writeLine_20 : decode cX3_writeLine 20 = .ok (.putfield 269, 3) := dk_181 1 13 (dk_at dksX3_writeLine_0 20 rfl rfl)
theorem dX3_writeLine_23 : decode cX3_writeLine 23 = .ok (.aload_n 0, 1) := dk_42 (dk_at dksX3_writeLine_0 23 rfl rfl)
theorem dX3_writeLine_24 : decode cX3_writeLine 24 = .ok (.iload_n 1, 1) := dk_27 (dk_at dksX3_writeLine_1 0 rfl rfl)
theorem dX3_writeLine_25 : decode cX3_writeLine 25 = .ok (.invokevirtual 278, 3) := dk_182 1 22 (dk_at dksX3_writeLine_1 1 rfl rfl)
theorem dX3_writeLine_28 : decode cX3_writeLine 28 = .ok (.aload_n 0, 1) := dk_42 (dk_at dksX3_writeLine_1 4 rfl rfl)
theorem dX3_writeLine_29 : decode cX3_writeLine 29 = .ok (.getfield 269, 3) := dk_180 1 13 (dk_at dksX3_writeLine_1 5 rfl rfl)
theorem dX3_writeLine_32 : decode cX3_writeLine 32 = .ok (.ireturn, 1) := dk_172 (dk_at dksX3_writeLine_1 8 rfl rfl)
abbrev cX3_writes : ByteArray := prog_21_method_94_code
def yX3_writes : MethodName := ⟨RX3, "writes", "(I)V"⟩
def dkwX3_writes_2 : List UInt8 := [167, 255, 234, 177]
abbrev dktX3_writes_2 : List UInt8 := dkwX3_writes_2 ++ []
def dkwX3_writes_1 : List UInt8 := [3, 61, 28, 42, 27, 182, 0, 139, 162, 0, 19, 42, 42, 27, 28, 182, 0, 133, 182, 1, 19, 132, 2, 1]
abbrev dktX3_writes_1 : List UInt8 := dkwX3_writes_1 ++ dktX3_writes_2
def dkwX3_writes_0 : List UInt8 := [42, 27, 182, 1, 16, 42, 42, 27, 182, 0, 180, 158, 0, 8, 16, 43, 167, 0, 5, 16, 58, 182, 1, 19]
abbrev dktX3_writes_0 : List UInt8 := dkwX3_writes_0 ++ dktX3_writes_1
theorem dksX3_writes_0 : cX3_writes.data.toList.drop 0 = dktX3_writes_0 := by decide +kernel
theorem dksX3_writes_1 : cX3_writes.data.toList.drop 24 = dktX3_writes_1 := dk_seg dksX3_writes_0 24 rfl rfl
theorem dksX3_writes_2 : cX3_writes.data.toList.drop 48 = dktX3_writes_2 := dk_seg dksX3_writes_1 24 rfl rfl
theorem dX3_writes_0 : decode cX3_writes 0 = .ok (.aload_n 0, 1) := dk_42 (dk_at dksX3_writes_0 0 rfl rfl)
theorem dX3_writes_1 : decode cX3_writes 1 = .ok (.iload_n 1, 1) := dk_27 (dk_at dksX3_writes_0 1 rfl rfl)
theorem dX3_writes_2 : decode cX3_writes 2 = .ok (.invokevirtual 272, 3) := dk_182 1 16 (dk_at dksX3_writes_0 2 rfl rfl)
theorem dX3_writes_5 : decode cX3_writes 5 = .ok (.aload_n 0, 1) := dk_42 (dk_at dksX3_writes_0 5 rfl rfl)
theorem dX3_writes_6 : decode cX3_writes 6 = .ok (.aload_n 0, 1) := dk_42 (dk_at dksX3_writes_0 6 rfl rfl)
theorem dX3_writes_7 : decode cX3_writes 7 = .ok (.iload_n 1, 1) := dk_27 (dk_at dksX3_writes_0 7 rfl rfl)
theorem dX3_writes_8 : decode cX3_writes 8 = .ok (.invokevirtual 180, 3) := dk_182 0 180 (dk_at dksX3_writes_0 8 rfl rfl)
theorem dX3_writes_11 : decode cX3_writes 11 = .ok (.ifCond .le 8, 3) := dk_158 0 8 (dk_at dksX3_writes_0 11 rfl rfl)
theorem dX3_writes_14 : decode cX3_writes 14 = .ok (.bipush 43, 2) := dk_16 43 (dk_at dksX3_writes_0 14 rfl rfl)
theorem dX3_writes_16 : decode cX3_writes 16 = .ok (.goto 5, 3) := dk_167 0 5 (dk_at dksX3_writes_0 16 rfl rfl)
theorem dX3_writes_19 : decode cX3_writes 19 = .ok (.bipush 58, 2) := dk_16 58 (dk_at dksX3_writes_0 19 rfl rfl)
theorem dX3_writes_21 : decode cX3_writes 21 = .ok (.invokevirtual 275, 3) := dk_182 1 19 (dk_at dksX3_writes_0 21 rfl rfl)
theorem dX3_writes_24 : decode cX3_writes 24 = .ok (.iconst 0, 1) := dk_3 (dk_at dksX3_writes_1 0 rfl rfl)
theorem dX3_writes_25 : decode cX3_writes 25 = .ok (.istore_n 2, 1) := dk_61 (dk_at dksX3_writes_1 1 rfl rfl)
theorem dX3_writes_26 : decode cX3_writes 26 = .ok (.iload_n 2, 1) := dk_28 (dk_at dksX3_writes_1 2 rfl rfl)
theorem dX3_writes_27 : decode cX3_writes 27 = .ok (.aload_n 0, 1) := dk_42 (dk_at dksX3_writes_1 3 rfl rfl)
theorem dX3_writes_28 : decode cX3_writes 28 = .ok (.iload_n 1, 1) := dk_27 (dk_at dksX3_writes_1 4 rfl rfl)
theorem dX3_writes_29 : decode cX3_writes 29 = .ok (.invokevirtual 139, 3) := dk_182 0 139 (dk_at dksX3_writes_1 5 rfl rfl)
theorem dX3_writes_32 : decode cX3_writes 32 = .ok (.if_icmp .ge 19, 3) := dk_162 0 19 (dk_at dksX3_writes_1 8 rfl rfl)
theorem dX3_writes_35 : decode cX3_writes 35 = .ok (.aload_n 0, 1) := dk_42 (dk_at dksX3_writes_1 11 rfl rfl)
theorem dX3_writes_36 : decode cX3_writes 36 = .ok (.aload_n 0, 1) := dk_42 (dk_at dksX3_writes_1 12 rfl rfl)
theorem dX3_writes_37 : decode cX3_writes 37 = .ok (.iload_n 1, 1) := dk_27 (dk_at dksX3_writes_1 13 rfl rfl)
theorem dX3_writes_38 : decode cX3_writes 38 = .ok (.iload_n 2, 1) := dk_28 (dk_at dksX3_writes_1 14 rfl rfl)
theorem dX3_writes_39 : decode cX3_writes 39 = .ok (.invokevirtual 133, 3) := dk_182 0 133 (dk_at dksX3_writes_1 15 rfl rfl)
theorem dX3_writes_42 : decode cX3_writes 42 = .ok (.invokevirtual 275, 3) := dk_182 1 19 (dk_at dksX3_writes_1 18 rfl rfl)
theorem dX3_writes_45 : decode cX3_writes 45 = .ok (.iinc 2 1, 3) := dk_132 2 1 (dk_at dksX3_writes_1 21 rfl rfl)
theorem dX3_writes_48 : decode cX3_writes 48 = .ok (.goto (-22), 3) := dk_167 255 234 (dk_at dksX3_writes_2 0 rfl rfl)
theorem dX3_writes_51 : decode cX3_writes 51 = .ok (.return_, 1) := dk_177 (dk_at dksX3_writes_2 3 rfl rfl)
abbrev cX3_writesNumber : ByteArray := prog_21_method_93_code
def yX3_writesNumber : MethodName := ⟨RX3, "writesNumber", "(I)V"⟩
def dkwX3_writesNumber_1 : List UInt8 := [182, 1, 19, 177]
abbrev dktX3_writesNumber_1 : List UInt8 := dkwX3_writesNumber_1 ++ []
def dkwX3_writesNumber_0 : List UInt8 := [27, 16, 9, 164, 0, 11, 42, 27, 16, 10, 108, 182, 1, 16, 42, 16, 48, 27, 16, 10, 112, 96]
abbrev dktX3_writesNumber_0 : List UInt8 := dkwX3_writesNumber_0 ++ dktX3_writesNumber_1
theorem dksX3_writesNumber_0 : cX3_writesNumber.data.toList.drop 0 = dktX3_writesNumber_0 := by decide +kernel
theorem dksX3_writesNumber_1 : cX3_writesNumber.data.toList.drop 22 = dktX3_writesNumber_1 := dk_seg dksX3_writesNumber_0 22 rfl rfl
theorem dX3_writesNumber_0 : decode cX3_writesNumber 0 = .ok (.iload_n 1, 1) := dk_27 (dk_at dksX3_writesNumber_0 0 rfl rfl)
theorem dX3_writesNumber_1 : decode cX3_writesNumber 1 = .ok (.bipush 9, 2) := dk_16 9 (dk_at dksX3_writesNumber_0 1 rfl rfl)
theorem dX3_writesNumber_3 : decode cX3_writesNumber 3 = .ok (.if_icmp .le 11, 3) := dk_164 0 11 (dk_at dksX3_writesNumber_0 3 rfl rfl)
theorem dX3_writesNumber_6 : decode cX3_writesNumber 6 = .ok (.aload_n 0, 1) := dk_42 (dk_at dksX3_writesNumber_0 6 rfl rfl)
theorem dX3_writesNumber_7 : decode cX3_writesNumber 7 = .ok (.iload_n 1, 1) := dk_27 (dk_at dksX3_writesNumber_0 7 rfl rfl)
theorem dX3_writesNumber_8 : decode cX3_writesNumber 8 = .ok (.bipush 10, 2) := dk_16 10 (dk_at dksX3_writesNumber_0 8 rfl rfl)
theorem dX3_writesNumber_10 : decode cX3_writesNumber 10 = .ok (.idiv, 1) := dk_108 (dk_at dksX3_writesNumber_0 10 rfl rfl)
theorem dX3_writesNumber_11 : decode cX3_writesNumber 11 = .ok (.invokevirtual 272, 3) := dk_182 1 16 (dk_at dksX3_writesNumber_0 11 rfl rfl)
theorem dX3_writesNumber_14 : decode cX3_writesNumber 14 = .ok (.aload_n 0, 1) := dk_42 (dk_at dksX3_writesNumber_0 14 rfl rfl)
theorem dX3_writesNumber_15 : decode cX3_writesNumber 15 = .ok (.bipush 48, 2) := dk_16 48 (dk_at dksX3_writesNumber_0 15 rfl rfl)
theorem dX3_writesNumber_17 : decode cX3_writesNumber 17 = .ok (.iload_n 1, 1) := dk_27 (dk_at dksX3_writesNumber_0 17 rfl rfl)
theorem dX3_writesNumber_18 : decode cX3_writesNumber 18 = .ok (.bipush 10, 2) := dk_16 10 (dk_at dksX3_writesNumber_0 18 rfl rfl)
theorem dX3_writesNumber_20 : decode cX3_writesNumber 20 = .ok (.irem, 1) := dk_112 (dk_at dksX3_writesNumber_0 20 rfl rfl)
theorem dX3_writesNumber_21 : decode cX3_writesNumber 21 = .ok (.iadd, 1) := dk_96 (dk_at dksX3_writesNumber_0 21 rfl rfl)
theorem dX3_writesNumber_22 : decode cX3_writesNumber 22 = .ok (.invokevirtual 275, 3) := dk_182 1 19 (dk_at dksX3_writesNumber_1 0 rfl rfl)
theorem dX3_writesNumber_25 : decode cX3_writesNumber 25 = .ok (.return_, 1) := dk_177 (dk_at dksX3_writesNumber_1 3 rfl rfl)
abbrev cX3_writesByte : ByteArray := prog_21_method_92_code
def yX3_writesByte : MethodName := ⟨RX3, "writesByte", "(I)V"⟩
def dkwX3_writesByte_0 : List UInt8 := [42, 180, 0, 73, 42, 180, 1, 13, 27, 145, 84, 42, 89, 180, 1, 13, 4, 96, 181, 1, 13, 177]
abbrev dktX3_writesByte_0 : List UInt8 := dkwX3_writesByte_0 ++ []
theorem dksX3_writesByte_0 : cX3_writesByte.data.toList.drop 0 = dktX3_writesByte_0 := by decide +kernel
theorem dX3_writesByte_0 : decode cX3_writesByte 0 = .ok (.aload_n 0, 1) := dk_42 (dk_at dksX3_writesByte_0 0 rfl rfl)
theorem dX3_writesByte_1 : decode cX3_writesByte 1 = .ok (.getfield 73, 3) := dk_180 0 73 (dk_at dksX3_writesByte_0 1 rfl rfl)
theorem dX3_writesByte_4 : decode cX3_writesByte 4 = .ok (.aload_n 0, 1) := dk_42 (dk_at dksX3_writesByte_0 4 rfl rfl)
theorem dX3_writesByte_5 : decode cX3_writesByte 5 = .ok (.getfield 269, 3) := dk_180 1 13 (dk_at dksX3_writesByte_0 5 rfl rfl)
theorem dX3_writesByte_8 : decode cX3_writesByte 8 = .ok (.iload_n 1, 1) := dk_27 (dk_at dksX3_writesByte_0 8 rfl rfl)
theorem dX3_writesByte_9 : decode cX3_writesByte 9 = .ok (.i2b, 1) := dk_145 (dk_at dksX3_writesByte_0 9 rfl rfl)
theorem dX3_writesByte_10 : decode cX3_writesByte 10 = .ok (.bastore, 1) := dk_84 (dk_at dksX3_writesByte_0 10 rfl rfl)
theorem dX3_writesByte_11 : decode cX3_writesByte 11 = .ok (.aload_n 0, 1) := dk_42 (dk_at dksX3_writesByte_0 11 rfl rfl)
theorem dX3_writesByte_12 : decode cX3_writesByte 12 = .ok (.dup, 1) := dk_89 (dk_at dksX3_writesByte_0 12 rfl rfl)
theorem dX3_writesByte_13 : decode cX3_writesByte 13 = .ok (.getfield 269, 3) := dk_180 1 13 (dk_at dksX3_writesByte_0 13 rfl rfl)
theorem dX3_writesByte_16 : decode cX3_writesByte 16 = .ok (.iconst 1, 1) := dk_4 (dk_at dksX3_writesByte_0 16 rfl rfl)
theorem dX3_writesByte_17 : decode cX3_writesByte 17 = .ok (.iadd, 1) := dk_96 (dk_at dksX3_writesByte_0 17 rfl rfl)
theorem dX3_writesByte_18 : decode cX3_writesByte 18 = .ok (.putfield 269, 3) := dk_181 1 13 (dk_at dksX3_writesByte_0 18 rfl rfl)
theorem dX3_writesByte_21 : decode cX3_writesByte 21 = .ok (.return_, 1) := dk_177 (dk_at dksX3_writesByte_0 21 rfl rfl)
abbrev cX3_writeRows : ByteArray := prog_21_method_96_code
def yX3_writeRows : MethodName := ⟨RX3, "writeRows", "(II)I"⟩
def dkwX3_writeRows_3 : List UInt8 := [27, 21, 4, 96, 182, 0, 198, 182, 1, 22, 132, 4, 1, 167, 255, 216, 42, 180, 1, 13, 172]
abbrev dktX3_writeRows_3 : List UInt8 := dkwX3_writeRows_3 ++ []
def dkwX3_writeRows_2 : List UInt8 := [162, 0, 40, 27, 21, 4, 96, 29, 163, 0, 32, 21, 4, 158, 0, 9, 42, 16, 124, 182, 1, 19, 42, 42]
abbrev dktX3_writeRows_2 : List UInt8 := dkwX3_writeRows_2 ++ dktX3_writeRows_3
def dkwX3_writeRows_1 : List UInt8 := [167, 0, 4, 3, 182, 0, 170, 154, 0, 5, 3, 172, 42, 3, 181, 1, 13, 3, 54, 4, 21, 4, 28]
abbrev dktX3_writeRows_1 : List UInt8 := dkwX3_writeRows_1 ++ dktX3_writeRows_2
def dkwX3_writeRows_0 : List UInt8 := [42, 182, 0, 174, 42, 182, 0, 195, 62, 42, 27, 4, 29, 184, 0, 95, 28, 4, 161, 0, 7, 4]
abbrev dktX3_writeRows_0 : List UInt8 := dkwX3_writeRows_0 ++ dktX3_writeRows_1
theorem dksX3_writeRows_0 : cX3_writeRows.data.toList.drop 0 = dktX3_writeRows_0 := by decide +kernel
theorem dksX3_writeRows_1 : cX3_writeRows.data.toList.drop 22 = dktX3_writeRows_1 := dk_seg dksX3_writeRows_0 22 rfl rfl
theorem dksX3_writeRows_2 : cX3_writeRows.data.toList.drop 45 = dktX3_writeRows_2 := dk_seg dksX3_writeRows_1 23 rfl rfl
theorem dksX3_writeRows_3 : cX3_writeRows.data.toList.drop 69 = dktX3_writeRows_3 := dk_seg dksX3_writeRows_2 24 rfl rfl
theorem dX3_writeRows_0 : decode cX3_writeRows 0 = .ok (.aload_n 0, 1) := dk_42 (dk_at dksX3_writeRows_0 0 rfl rfl)
theorem dX3_writeRows_1 : decode cX3_writeRows 1 = .ok (.invokevirtual 174, 3) := dk_182 0 174 (dk_at dksX3_writeRows_0 1 rfl rfl)
theorem dX3_writeRows_4 : decode cX3_writeRows 4 = .ok (.aload_n 0, 1) := dk_42 (dk_at dksX3_writeRows_0 4 rfl rfl)
theorem dX3_writeRows_5 : decode cX3_writeRows 5 = .ok (.invokevirtual 195, 3) := dk_182 0 195 (dk_at dksX3_writeRows_0 5 rfl rfl)
theorem dX3_writeRows_8 : decode cX3_writeRows 8 = .ok (.istore_n 3, 1) := dk_62 (dk_at dksX3_writeRows_0 8 rfl rfl)
theorem dX3_writeRows_9 : decode cX3_writeRows 9 = .ok (.aload_n 0, 1) := dk_42 (dk_at dksX3_writeRows_0 9 rfl rfl)
theorem dX3_writeRows_10 : decode cX3_writeRows 10 = .ok (.iload_n 1, 1) := dk_27 (dk_at dksX3_writeRows_0 10 rfl rfl)
theorem dX3_writeRows_11 : decode cX3_writeRows 11 = .ok (.iconst 1, 1) := dk_4 (dk_at dksX3_writeRows_0 11 rfl rfl)
theorem dX3_writeRows_12 : decode cX3_writeRows 12 = .ok (.iload_n 3, 1) := dk_29 (dk_at dksX3_writeRows_0 12 rfl rfl)
theorem dX3_writeRows_13 : decode cX3_writeRows 13 = .ok (.invokestatic 95, 3) := dk_184 0 95 (dk_at dksX3_writeRows_0 13 rfl rfl)
theorem dX3_writeRows_16 : decode cX3_writeRows 16 = .ok (.iload_n 2, 1) := dk_28 (dk_at dksX3_writeRows_0 16 rfl rfl)
theorem dX3_writeRows_17 : decode cX3_writeRows 17 = .ok (.iconst 1, 1) := dk_4 (dk_at dksX3_writeRows_0 17 rfl rfl)
theorem dX3_writeRows_18 : decode cX3_writeRows 18 = .ok (.if_icmp .lt 7, 3) := dk_161 0 7 (dk_at dksX3_writeRows_0 18 rfl rfl)
theorem dX3_writeRows_21 : decode cX3_writeRows 21 = .ok (.iconst 1, 1) := dk_4 (dk_at dksX3_writeRows_0 21 rfl rfl)
theorem dX3_writeRows_22 : decode cX3_writeRows 22 = .ok (.goto 4, 3) := dk_167 0 4 (dk_at dksX3_writeRows_1 0 rfl rfl)
theorem dX3_writeRows_25 : decode cX3_writeRows 25 = .ok (.iconst 0, 1) := dk_3 (dk_at dksX3_writeRows_1 3 rfl rfl)
theorem dX3_writeRows_26 : decode cX3_writeRows 26 = .ok (.invokevirtual 170, 3) := dk_182 0 170 (dk_at dksX3_writeRows_1 4 rfl rfl)
theorem dX3_writeRows_29 : decode cX3_writeRows 29 = .ok (.ifCond .ne 5, 3) := dk_154 0 5 (dk_at dksX3_writeRows_1 7 rfl rfl)
theorem dX3_writeRows_32 : decode cX3_writeRows 32 = .ok (.iconst 0, 1) := dk_3 (dk_at dksX3_writeRows_1 10 rfl rfl)
theorem dX3_writeRows_33 : decode cX3_writeRows 33 = .ok (.ireturn, 1) := dk_172 (dk_at dksX3_writeRows_1 11 rfl rfl)
theorem dX3_writeRows_34 : decode cX3_writeRows 34 = .ok (.aload_n 0, 1) := dk_42 (dk_at dksX3_writeRows_1 12 rfl rfl)
theorem dX3_writeRows_35 : decode cX3_writeRows 35 = .ok (.iconst 0, 1) := dk_3 (dk_at dksX3_writeRows_1 13 rfl rfl)
theorem dX3_writeRows_36 : decode cX3_writeRows 36 = .ok (.putfield 269, 3) := dk_181 1 13 (dk_at dksX3_writeRows_1 14 rfl rfl)
theorem dX3_writeRows_39 : decode cX3_writeRows 39 = .ok (.iconst 0, 1) := dk_3 (dk_at dksX3_writeRows_1 17 rfl rfl)
theorem dX3_writeRows_40 : decode cX3_writeRows 40 = .ok (.istore 4, 2) := dk_54 4 (dk_at dksX3_writeRows_1 18 rfl rfl)
theorem dX3_writeRows_42 : decode cX3_writeRows 42 = .ok (.iload 4, 2) := dk_21 4 (dk_at dksX3_writeRows_1 20 rfl rfl)
theorem dX3_writeRows_44 : decode cX3_writeRows 44 = .ok (.iload_n 2, 1) := dk_28 (dk_at dksX3_writeRows_1 22 rfl rfl)
theorem dX3_writeRows_45 : decode cX3_writeRows 45 = .ok (.if_icmp .ge 40, 3) := dk_162 0 40 (dk_at dksX3_writeRows_2 0 rfl rfl)
theorem dX3_writeRows_48 : decode cX3_writeRows 48 = .ok (.iload_n 1, 1) := dk_27 (dk_at dksX3_writeRows_2 3 rfl rfl)
theorem dX3_writeRows_49 : decode cX3_writeRows 49 = .ok (.iload 4, 2) := dk_21 4 (dk_at dksX3_writeRows_2 4 rfl rfl)
theorem dX3_writeRows_51 : decode cX3_writeRows 51 = .ok (.iadd, 1) := dk_96 (dk_at dksX3_writeRows_2 6 rfl rfl)
theorem dX3_writeRows_52 : decode cX3_writeRows 52 = .ok (.iload_n 3, 1) := dk_29 (dk_at dksX3_writeRows_2 7 rfl rfl)
theorem dX3_writeRows_53 : decode cX3_writeRows 53 = .ok (.if_icmp .gt 32, 3) := dk_163 0 32 (dk_at dksX3_writeRows_2 8 rfl rfl)
theorem dX3_writeRows_56 : decode cX3_writeRows 56 = .ok (.iload 4, 2) := dk_21 4 (dk_at dksX3_writeRows_2 11 rfl rfl)
theorem dX3_writeRows_58 : decode cX3_writeRows 58 = .ok (.ifCond .le 9, 3) := dk_158 0 9 (dk_at dksX3_writeRows_2 13 rfl rfl)
theorem dX3_writeRows_61 : decode cX3_writeRows 61 = .ok (.aload_n 0, 1) := dk_42 (dk_at dksX3_writeRows_2 16 rfl rfl)
theorem dX3_writeRows_62 : decode cX3_writeRows 62 = .ok (.bipush 124, 2) := dk_16 124 (dk_at dksX3_writeRows_2 17 rfl rfl)
theorem dX3_writeRows_64 : decode cX3_writeRows 64 = .ok (.invokevirtual 275, 3) := dk_182 1 19 (dk_at dksX3_writeRows_2 19 rfl rfl)
theorem dX3_writeRows_67 : decode cX3_writeRows 67 = .ok (.aload_n 0, 1) := dk_42 (dk_at dksX3_writeRows_2 22 rfl rfl)
theorem dX3_writeRows_68 : decode cX3_writeRows 68 = .ok (.aload_n 0, 1) := dk_42 (dk_at dksX3_writeRows_2 23 rfl rfl)
theorem dX3_writeRows_69 : decode cX3_writeRows 69 = .ok (.iload_n 1, 1) := dk_27 (dk_at dksX3_writeRows_3 0 rfl rfl)
theorem dX3_writeRows_70 : decode cX3_writeRows 70 = .ok (.iload 4, 2) := dk_21 4 (dk_at dksX3_writeRows_3 1 rfl rfl)
theorem dX3_writeRows_72 : decode cX3_writeRows 72 = .ok (.iadd, 1) := dk_96 (dk_at dksX3_writeRows_3 3 rfl rfl)
theorem dX3_writeRows_73 : decode cX3_writeRows 73 = .ok (.invokevirtual 198, 3) := dk_182 0 198 (dk_at dksX3_writeRows_3 4 rfl rfl)
theorem dX3_writeRows_76 : decode cX3_writeRows 76 = .ok (.invokevirtual 278, 3) := dk_182 1 22 (dk_at dksX3_writeRows_3 7 rfl rfl)
theorem dX3_writeRows_79 : decode cX3_writeRows 79 = .ok (.iinc 4 1, 3) := dk_132 4 1 (dk_at dksX3_writeRows_3 10 rfl rfl)
theorem dX3_writeRows_82 : decode cX3_writeRows 82 = .ok (.goto (-40), 3) := dk_167 255 216 (dk_at dksX3_writeRows_3 13 rfl rfl)
theorem dX3_writeRows_85 : decode cX3_writeRows 85 = .ok (.aload_n 0, 1) := dk_42 (dk_at dksX3_writeRows_3 16 rfl rfl)
theorem dX3_writeRows_86 : decode cX3_writeRows 86 = .ok (.getfield 269, 3) := dk_180 1 13 (dk_at dksX3_writeRows_3 17 rfl rfl)
theorem dX3_writeRows_89 : decode cX3_writeRows 89 = .ok (.ireturn, 1) := dk_172 (dk_at dksX3_writeRows_3 20 rfl rfl)
abbrev cX3_writeOutline : ByteArray := prog_21_method_97_code
def yX3_writeOutline : MethodName := ⟨RX3, "writeOutline", "()I"⟩
def dkwX3_writeOutline_4 : List UInt8 := [167, 255, 179, 42, 180, 1, 13, 172]
abbrev dktX3_writeOutline_4 : List UInt8 := dkwX3_writeOutline_4 ++ []
def dkwX3_writeOutline_3 : List UInt8 := [27, 46, 182, 1, 16, 42, 27, 182, 0, 215, 153, 0, 9, 42, 16, 42, 182, 1, 19, 132, 1, 1]
abbrev dktX3_writeOutline_3 : List UInt8 := dkwX3_writeOutline_3 ++ dktX3_writeOutline_4
def dkwX3_writeOutline_2 : List UInt8 := [182, 1, 19, 42, 42, 180, 0, 46, 27, 46, 182, 1, 16, 42, 16, 45, 182, 1, 19, 42, 42, 180, 0, 49]
abbrev dktX3_writeOutline_2 : List UInt8 := dkwX3_writeOutline_2 ++ dktX3_writeOutline_3
def dkwX3_writeOutline_1 : List UInt8 := [27, 158, 0, 9, 42, 16, 32, 182, 1, 19, 42, 42, 180, 0, 58, 27, 46, 182, 1, 16, 42, 16, 47]
abbrev dktX3_writeOutline_1 : List UInt8 := dkwX3_writeOutline_1 ++ dktX3_writeOutline_2
def dkwX3_writeOutline_0 : List UInt8 := [42, 3, 181, 0, 1, 42, 182, 0, 174, 42, 3, 181, 1, 13, 3, 60, 27, 42, 180, 0, 145, 162, 0, 75]
abbrev dktX3_writeOutline_0 : List UInt8 := dkwX3_writeOutline_0 ++ dktX3_writeOutline_1
theorem dksX3_writeOutline_0 : cX3_writeOutline.data.toList.drop 0 = dktX3_writeOutline_0 := by decide +kernel
theorem dksX3_writeOutline_1 : cX3_writeOutline.data.toList.drop 24 = dktX3_writeOutline_1 := dk_seg dksX3_writeOutline_0 24 rfl rfl
theorem dksX3_writeOutline_2 : cX3_writeOutline.data.toList.drop 47 = dktX3_writeOutline_2 := dk_seg dksX3_writeOutline_1 23 rfl rfl
theorem dksX3_writeOutline_3 : cX3_writeOutline.data.toList.drop 71 = dktX3_writeOutline_3 := dk_seg dksX3_writeOutline_2 24 rfl rfl
theorem dksX3_writeOutline_4 : cX3_writeOutline.data.toList.drop 93 = dktX3_writeOutline_4 := dk_seg dksX3_writeOutline_3 22 rfl rfl
theorem dX3_writeOutline_0 : decode cX3_writeOutline 0 = .ok (.aload_n 0, 1) := dk_42 (dk_at dksX3_writeOutline_0 0 rfl rfl)
theorem dX3_writeOutline_1 : decode cX3_writeOutline 1 = .ok (.iconst 0, 1) := dk_3 (dk_at dksX3_writeOutline_0 1 rfl rfl)
theorem dX3_writeOutline_2 : decode cX3_writeOutline 2 = .ok (.putfield 1, 3) := dk_181 0 1 (dk_at dksX3_writeOutline_0 2 rfl rfl)
theorem dX3_writeOutline_5 : decode cX3_writeOutline 5 = .ok (.aload_n 0, 1) := dk_42 (dk_at dksX3_writeOutline_0 5 rfl rfl)
theorem dX3_writeOutline_6 : decode cX3_writeOutline 6 = .ok (.invokevirtual 174, 3) := dk_182 0 174 (dk_at dksX3_writeOutline_0 6 rfl rfl)
theorem dX3_writeOutline_9 : decode cX3_writeOutline 9 = .ok (.aload_n 0, 1) := dk_42 (dk_at dksX3_writeOutline_0 9 rfl rfl)
theorem dX3_writeOutline_10 : decode cX3_writeOutline 10 = .ok (.iconst 0, 1) := dk_3 (dk_at dksX3_writeOutline_0 10 rfl rfl)
theorem dX3_writeOutline_11 : decode cX3_writeOutline 11 = .ok (.putfield 269, 3) := dk_181 1 13 (dk_at dksX3_writeOutline_0 11 rfl rfl)
theorem dX3_writeOutline_14 : decode cX3_writeOutline 14 = .ok (.iconst 0, 1) := dk_3 (dk_at dksX3_writeOutline_0 14 rfl rfl)
theorem dX3_writeOutline_15 : decode cX3_writeOutline 15 = .ok (.istore_n 1, 1) := dk_60 (dk_at dksX3_writeOutline_0 15 rfl rfl)
theorem dX3_writeOutline_16 : decode cX3_writeOutline 16 = .ok (.iload_n 1, 1) := dk_27 (dk_at dksX3_writeOutline_0 16 rfl rfl)
theorem dX3_writeOutline_17 : decode cX3_writeOutline 17 = .ok (.aload_n 0, 1) := dk_42 (dk_at dksX3_writeOutline_0 17 rfl rfl)
theorem dX3_writeOutline_18 : decode cX3_writeOutline 18 = .ok (.getfield 145, 3) := dk_180 0 145 (dk_at dksX3_writeOutline_0 18 rfl rfl)
theorem dX3_writeOutline_21 : decode cX3_writeOutline 21 = .ok (.if_icmp .ge 75, 3) := dk_162 0 75 (dk_at dksX3_writeOutline_0 21 rfl rfl)
theorem dX3_writeOutline_24 : decode cX3_writeOutline 24 = .ok (.iload_n 1, 1) := dk_27 (dk_at dksX3_writeOutline_1 0 rfl rfl)
theorem dX3_writeOutline_25 : decode cX3_writeOutline 25 = .ok (.ifCond .le 9, 3) := dk_158 0 9 (dk_at dksX3_writeOutline_1 1 rfl rfl)
theorem dX3_writeOutline_28 : decode cX3_writeOutline 28 = .ok (.aload_n 0, 1) := dk_42 (dk_at dksX3_writeOutline_1 4 rfl rfl)
theorem dX3_writeOutline_29 : decode cX3_writeOutline 29 = .ok (.bipush 32, 2) := dk_16 32 (dk_at dksX3_writeOutline_1 5 rfl rfl)
theorem dX3_writeOutline_31 : decode cX3_writeOutline 31 = .ok (.invokevirtual 275, 3) := dk_182 1 19 (dk_at dksX3_writeOutline_1 7 rfl rfl)
theorem dX3_writeOutline_34 : decode cX3_writeOutline 34 = .ok (.aload_n 0, 1) := dk_42 (dk_at dksX3_writeOutline_1 10 rfl rfl)
theorem dX3_writeOutline_35 : decode cX3_writeOutline 35 = .ok (.aload_n 0, 1) := dk_42 (dk_at dksX3_writeOutline_1 11 rfl rfl)
theorem dX3_writeOutline_36 : decode cX3_writeOutline 36 = .ok (.getfield 58, 3) := dk_180 0 58 (dk_at dksX3_writeOutline_1 12 rfl rfl)
theorem dX3_writeOutline_39 : decode cX3_writeOutline 39 = .ok (.iload_n 1, 1) := dk_27 (dk_at dksX3_writeOutline_1 15 rfl rfl)
theorem dX3_writeOutline_40 : decode cX3_writeOutline 40 = .ok (.iaload, 1) := dk_46 (dk_at dksX3_writeOutline_1 16 rfl rfl)
theorem dX3_writeOutline_41 : decode cX3_writeOutline 41 = .ok (.invokevirtual 272, 3) := dk_182 1 16 (dk_at dksX3_writeOutline_1 17 rfl rfl)
theorem dX3_writeOutline_44 : decode cX3_writeOutline 44 = .ok (.aload_n 0, 1) := dk_42 (dk_at dksX3_writeOutline_1 20 rfl rfl)
theorem dX3_writeOutline_45 : decode cX3_writeOutline 45 = .ok (.bipush 47, 2) := dk_16 47 (dk_at dksX3_writeOutline_1 21 rfl rfl)
theorem dX3_writeOutline_47 : decode cX3_writeOutline 47 = .ok (.invokevirtual 275, 3) := dk_182 1 19 (dk_at dksX3_writeOutline_2 0 rfl rfl)
theorem dX3_writeOutline_50 : decode cX3_writeOutline 50 = .ok (.aload_n 0, 1) := dk_42 (dk_at dksX3_writeOutline_2 3 rfl rfl)
theorem dX3_writeOutline_51 : decode cX3_writeOutline 51 = .ok (.aload_n 0, 1) := dk_42 (dk_at dksX3_writeOutline_2 4 rfl rfl)
theorem dX3_writeOutline_52 : decode cX3_writeOutline 52 = .ok (.getfield 46, 3) := dk_180 0 46 (dk_at dksX3_writeOutline_2 5 rfl rfl)
theorem dX3_writeOutline_55 : decode cX3_writeOutline 55 = .ok (.iload_n 1, 1) := dk_27 (dk_at dksX3_writeOutline_2 8 rfl rfl)
theorem dX3_writeOutline_56 : decode cX3_writeOutline 56 = .ok (.iaload, 1) := dk_46 (dk_at dksX3_writeOutline_2 9 rfl rfl)
theorem dX3_writeOutline_57 : decode cX3_writeOutline 57 = .ok (.invokevirtual 272, 3) := dk_182 1 16 (dk_at dksX3_writeOutline_2 10 rfl rfl)
theorem dX3_writeOutline_60 : decode cX3_writeOutline 60 = .ok (.aload_n 0, 1) := dk_42 (dk_at dksX3_writeOutline_2 13 rfl rfl)
theorem dX3_writeOutline_61 : decode cX3_writeOutline 61 = .ok (.bipush 45, 2) := dk_16 45 (dk_at dksX3_writeOutline_2 14 rfl rfl)
theorem dX3_writeOutline_63 : decode cX3_writeOutline 63 = .ok (.invokevirtual 275, 3) := dk_182 1 19 (dk_at dksX3_writeOutline_2 16 rfl rfl)
theorem dX3_writeOutline_66 : decode cX3_writeOutline 66 = .ok (.aload_n 0, 1) := dk_42 (dk_at dksX3_writeOutline_2 19 rfl rfl)
theorem dX3_writeOutline_67 : decode cX3_writeOutline 67 = .ok (.aload_n 0, 1) := dk_42 (dk_at dksX3_writeOutline_2 20 rfl rfl)
theorem dX3_writeOutline_68 : decode cX3_writeOutline 68 = .ok (.getfield 49, 3) := dk_180 0 49 (dk_at dksX3_writeOutline_2 21 rfl rfl)
theorem dX3_writeOutline_71 : decode cX3_writeOutline 71 = .ok (.iload_n 1, 1) := dk_27 (dk_at dksX3_writeOutline_3 0 rfl rfl)
theorem dX3_writeOutline_72 : decode cX3_writeOutline 72 = .ok (.iaload, 1) := dk_46 (dk_at dksX3_writeOutline_3 1 rfl rfl)
theorem dX3_writeOutline_73 : decode cX3_writeOutline 73 = .ok (.invokevirtual 272, 3) := dk_182 1 16 (dk_at dksX3_writeOutline_3 2 rfl rfl)
theorem dX3_writeOutline_76 : decode cX3_writeOutline 76 = .ok (.aload_n 0, 1) := dk_42 (dk_at dksX3_writeOutline_3 5 rfl rfl)
theorem dX3_writeOutline_77 : decode cX3_writeOutline 77 = .ok (.iload_n 1, 1) := dk_27 (dk_at dksX3_writeOutline_3 6 rfl rfl)
theorem dX3_writeOutline_78 : decode cX3_writeOutline 78 = .ok (.invokevirtual 215, 3) := dk_182 0 215 (dk_at dksX3_writeOutline_3 7 rfl rfl)
theorem dX3_writeOutline_81 : decode cX3_writeOutline 81 = .ok (.ifCond .eq 9, 3) := dk_153 0 9 (dk_at dksX3_writeOutline_3 10 rfl rfl)
theorem dX3_writeOutline_84 : decode cX3_writeOutline 84 = .ok (.aload_n 0, 1) := dk_42 (dk_at dksX3_writeOutline_3 13 rfl rfl)
theorem dX3_writeOutline_85 : decode cX3_writeOutline 85 = .ok (.bipush 42, 2) := dk_16 42 (dk_at dksX3_writeOutline_3 14 rfl rfl)
theorem dX3_writeOutline_87 : decode cX3_writeOutline 87 = .ok (.invokevirtual 275, 3) := dk_182 1 19 (dk_at dksX3_writeOutline_3 16 rfl rfl)
theorem dX3_writeOutline_90 : decode cX3_writeOutline 90 = .ok (.iinc 1 1, 3) := dk_132 1 1 (dk_at dksX3_writeOutline_3 19 rfl rfl)
theorem dX3_writeOutline_93 : decode cX3_writeOutline 93 = .ok (.goto (-77), 3) := dk_167 255 179 (dk_at dksX3_writeOutline_4 0 rfl rfl)
theorem dX3_writeOutline_96 : decode cX3_writeOutline 96 = .ok (.aload_n 0, 1) := dk_42 (dk_at dksX3_writeOutline_4 3 rfl rfl)
theorem dX3_writeOutline_97 : decode cX3_writeOutline 97 = .ok (.getfield 269, 3) := dk_180 1 13 (dk_at dksX3_writeOutline_4 4 rfl rfl)
theorem dX3_writeOutline_100 : decode cX3_writeOutline 100 = .ok (.ireturn, 1) := dk_172 (dk_at dksX3_writeOutline_4 7 rfl rfl)
abbrev cX3_textByte : ByteArray := prog_21_method_98_code
def yX3_textByte : MethodName := ⟨RX3, "textByte", "(I)I"⟩
def dkwX3_textByte_1 : List UInt8 := [167, 0, 4, 3, 172]
abbrev dktX3_textByte_1 : List UInt8 := dkwX3_textByte_1 ++ []
def dkwX3_textByte_0 : List UInt8 := [42, 27, 3, 42, 180, 1, 13, 4, 100, 184, 0, 95, 182, 0, 111, 153, 0, 12, 42, 180, 0, 73, 27, 51]
abbrev dktX3_textByte_0 : List UInt8 := dkwX3_textByte_0 ++ dktX3_textByte_1
theorem dksX3_textByte_0 : cX3_textByte.data.toList.drop 0 = dktX3_textByte_0 := by decide +kernel
theorem dksX3_textByte_1 : cX3_textByte.data.toList.drop 24 = dktX3_textByte_1 := dk_seg dksX3_textByte_0 24 rfl rfl
theorem dX3_textByte_0 : decode cX3_textByte 0 = .ok (.aload_n 0, 1) := dk_42 (dk_at dksX3_textByte_0 0 rfl rfl)
theorem dX3_textByte_1 : decode cX3_textByte 1 = .ok (.iload_n 1, 1) := dk_27 (dk_at dksX3_textByte_0 1 rfl rfl)
theorem dX3_textByte_2 : decode cX3_textByte 2 = .ok (.iconst 0, 1) := dk_3 (dk_at dksX3_textByte_0 2 rfl rfl)
theorem dX3_textByte_3 : decode cX3_textByte 3 = .ok (.aload_n 0, 1) := dk_42 (dk_at dksX3_textByte_0 3 rfl rfl)
theorem dX3_textByte_4 : decode cX3_textByte 4 = .ok (.getfield 269, 3) := dk_180 1 13 (dk_at dksX3_textByte_0 4 rfl rfl)
theorem dX3_textByte_7 : decode cX3_textByte 7 = .ok (.iconst 1, 1) := dk_4 (dk_at dksX3_textByte_0 7 rfl rfl)
theorem dX3_textByte_8 : decode cX3_textByte 8 = .ok (.isub, 1) := dk_100 (dk_at dksX3_textByte_0 8 rfl rfl)
theorem dX3_textByte_9 : decode cX3_textByte 9 = .ok (.invokestatic 95, 3) := dk_184 0 95 (dk_at dksX3_textByte_0 9 rfl rfl)
theorem dX3_textByte_12 : decode cX3_textByte 12 = .ok (.invokevirtual 111, 3) := dk_182 0 111 (dk_at dksX3_textByte_0 12 rfl rfl)
theorem dX3_textByte_15 : decode cX3_textByte 15 = .ok (.ifCond .eq 12, 3) := dk_153 0 12 (dk_at dksX3_textByte_0 15 rfl rfl)
theorem dX3_textByte_18 : decode cX3_textByte 18 = .ok (.aload_n 0, 1) := dk_42 (dk_at dksX3_textByte_0 18 rfl rfl)
theorem dX3_textByte_19 : decode cX3_textByte 19 = .ok (.getfield 73, 3) := dk_180 0 73 (dk_at dksX3_textByte_0 19 rfl rfl)
theorem dX3_textByte_22 : decode cX3_textByte 22 = .ok (.iload_n 1, 1) := dk_27 (dk_at dksX3_textByte_0 22 rfl rfl)
theorem dX3_textByte_23 : decode cX3_textByte 23 = .ok (.baload, 1) := dk_51 (dk_at dksX3_textByte_0 23 rfl rfl)
theorem dX3_textByte_24 : decode cX3_textByte 24 = .ok (.goto 4, 3) := dk_167 0 4 (dk_at dksX3_textByte_1 0 rfl rfl)
theorem dX3_textByte_27 : decode cX3_textByte 27 = .ok (.iconst 0, 1) := dk_3 (dk_at dksX3_textByte_1 3 rfl rfl)
theorem dX3_textByte_28 : decode cX3_textByte 28 = .ok (.ireturn, 1) := dk_172 (dk_at dksX3_textByte_1 4 rfl rfl)
abbrev cX3_insert : ByteArray := prog_21_method_106_code
def yX3_insert : MethodName := ⟨RX3, "insert", "(II)I"⟩
def dkwX3_insert_4 : List UInt8 := [180, 0, 13, 29, 3, 96, 46, 54, 4, 42, 27, 182, 1, 44, 21, 4, 172]
abbrev dktX3_insert_4 : List UInt8 := dkwX3_insert_4 ++ []
def dkwX3_insert_3 : List UInt8 := [3, 172, 42, 182, 1, 38, 42, 182, 0, 99, 62, 42, 42, 180, 0, 13, 3, 46, 28, 182, 1, 41, 42]
abbrev dktX3_insert_3 : List UInt8 := dkwX3_insert_3 ++ dktX3_insert_4
def dkwX3_insert_2 : List UInt8 := [42, 180, 0, 13, 3, 46, 16, 80, 159, 0, 11, 42, 28, 182, 1, 35, 154, 0, 10, 42, 5, 181, 0, 1]
abbrev dktX3_insert_2 : List UInt8 := dkwX3_insert_2 ++ dktX3_insert_3
def dkwX3_insert_1 : List UInt8 := [184, 0, 95, 153, 0, 7, 4, 167, 0, 4, 3, 182, 0, 111, 154, 0, 5, 3, 172, 42, 3, 181, 0, 85]
abbrev dktX3_insert_1 : List UInt8 := dkwX3_insert_1 ++ dktX3_insert_2
def dkwX3_insert_0 : List UInt8 := [42, 27, 4, 42, 180, 0, 13, 3, 46, 4, 96, 184, 0, 95, 153, 0, 19, 28, 3, 42, 180, 0, 85]
abbrev dktX3_insert_0 : List UInt8 := dkwX3_insert_0 ++ dktX3_insert_1
theorem dksX3_insert_0 : cX3_insert.data.toList.drop 0 = dktX3_insert_0 := by decide +kernel
theorem dksX3_insert_1 : cX3_insert.data.toList.drop 23 = dktX3_insert_1 := dk_seg dksX3_insert_0 23 rfl rfl
theorem dksX3_insert_2 : cX3_insert.data.toList.drop 47 = dktX3_insert_2 := dk_seg dksX3_insert_1 24 rfl rfl
theorem dksX3_insert_3 : cX3_insert.data.toList.drop 71 = dktX3_insert_3 := dk_seg dksX3_insert_2 24 rfl rfl
theorem dksX3_insert_4 : cX3_insert.data.toList.drop 94 = dktX3_insert_4 := dk_seg dksX3_insert_3 23 rfl rfl
theorem dX3_insert_0 : decode cX3_insert 0 = .ok (.aload_n 0, 1) := dk_42 (dk_at dksX3_insert_0 0 rfl rfl)
theorem dX3_insert_1 : decode cX3_insert 1 = .ok (.iload_n 1, 1) := dk_27 (dk_at dksX3_insert_0 1 rfl rfl)
theorem dX3_insert_2 : decode cX3_insert 2 = .ok (.iconst 1, 1) := dk_4 (dk_at dksX3_insert_0 2 rfl rfl)
theorem dX3_insert_3 : decode cX3_insert 3 = .ok (.aload_n 0, 1) := dk_42 (dk_at dksX3_insert_0 3 rfl rfl)
theorem dX3_insert_4 : decode cX3_insert 4 = .ok (.getfield 13, 3) := dk_180 0 13 (dk_at dksX3_insert_0 4 rfl rfl)
theorem dX3_insert_7 : decode cX3_insert 7 = .ok (.iconst 0, 1) := dk_3 (dk_at dksX3_insert_0 7 rfl rfl)
theorem dX3_insert_8 : decode cX3_insert 8 = .ok (.iaload, 1) := dk_46 (dk_at dksX3_insert_0 8 rfl rfl)
theorem dX3_insert_9 : decode cX3_insert 9 = .ok (.iconst 1, 1) := dk_4 (dk_at dksX3_insert_0 9 rfl rfl)
theorem dX3_insert_10 : decode cX3_insert 10 = .ok (.iadd, 1) := dk_96 (dk_at dksX3_insert_0 10 rfl rfl)
theorem dX3_insert_11 : decode cX3_insert 11 = .ok (.invokestatic 95, 3) := dk_184 0 95 (dk_at dksX3_insert_0 11 rfl rfl)
theorem dX3_insert_14 : decode cX3_insert 14 = .ok (.ifCond .eq 19, 3) := dk_153 0 19 (dk_at dksX3_insert_0 14 rfl rfl)
theorem dX3_insert_17 : decode cX3_insert 17 = .ok (.iload_n 2, 1) := dk_28 (dk_at dksX3_insert_0 17 rfl rfl)
theorem dX3_insert_18 : decode cX3_insert 18 = .ok (.iconst 0, 1) := dk_3 (dk_at dksX3_insert_0 18 rfl rfl)
theorem dX3_insert_19 : decode cX3_insert 19 = .ok (.aload_n 0, 1) := dk_42 (dk_at dksX3_insert_0 19 rfl rfl)
theorem dX3_insert_20 : decode cX3_insert 20 = .ok (.getfield 85, 3) := dk_180 0 85 (dk_at dksX3_insert_0 20 rfl rfl)
theorem dX3_insert_23 : decode cX3_insert 23 = .ok (.invokestatic 95, 3) := dk_184 0 95 (dk_at dksX3_insert_1 0 rfl rfl)
theorem dX3_insert_26 : decode cX3_insert 26 = .ok (.ifCond .eq 7, 3) := dk_153 0 7 (dk_at dksX3_insert_1 3 rfl rfl)
theorem dX3_insert_29 : decode cX3_insert 29 = .ok (.iconst 1, 1) := dk_4 (dk_at dksX3_insert_1 6 rfl rfl)
theorem dX3_insert_30 : decode cX3_insert 30 = .ok (.goto 4, 3) := dk_167 0 4 (dk_at dksX3_insert_1 7 rfl rfl)
theorem dX3_insert_33 : decode cX3_insert 33 = .ok (.iconst 0, 1) := dk_3 (dk_at dksX3_insert_1 10 rfl rfl)
theorem dX3_insert_34 : decode cX3_insert 34 = .ok (.invokevirtual 111, 3) := dk_182 0 111 (dk_at dksX3_insert_1 11 rfl rfl)
theorem dX3_insert_37 : decode cX3_insert 37 = .ok (.ifCond .ne 5, 3) := dk_154 0 5 (dk_at dksX3_insert_1 14 rfl rfl)
theorem dX3_insert_40 : decode cX3_insert 40 = .ok (.iconst 0, 1) := dk_3 (dk_at dksX3_insert_1 17 rfl rfl)
theorem dX3_insert_41 : decode cX3_insert 41 = .ok (.ireturn, 1) := dk_172 (dk_at dksX3_insert_1 18 rfl rfl)
theorem dX3_insert_42 : decode cX3_insert 42 = .ok (.aload_n 0, 1) := dk_42 (dk_at dksX3_insert_1 19 rfl rfl)
theorem dX3_insert_43 : decode cX3_insert 43 = .ok (.iconst 0, 1) := dk_3 (dk_at dksX3_insert_1 20 rfl rfl)
theorem dX3_insert_44 : decode cX3_insert 44 = .ok (.putfield 85, 3) := dk_181 0 85 (dk_at dksX3_insert_1 21 rfl rfl)
theorem dX3_insert_47 : decode cX3_insert 47 = .ok (.aload_n 0, 1) := dk_42 (dk_at dksX3_insert_2 0 rfl rfl)
theorem dX3_insert_48 : decode cX3_insert 48 = .ok (.getfield 13, 3) := dk_180 0 13 (dk_at dksX3_insert_2 1 rfl rfl)
theorem dX3_insert_51 : decode cX3_insert 51 = .ok (.iconst 0, 1) := dk_3 (dk_at dksX3_insert_2 4 rfl rfl)
theorem dX3_insert_52 : decode cX3_insert 52 = .ok (.iaload, 1) := dk_46 (dk_at dksX3_insert_2 5 rfl rfl)
theorem dX3_insert_53 : decode cX3_insert 53 = .ok (.bipush 80, 2) := dk_16 80 (dk_at dksX3_insert_2 6 rfl rfl)
theorem dX3_insert_55 : decode cX3_insert 55 = .ok (.if_icmp .eq 11, 3) := dk_159 0 11 (dk_at dksX3_insert_2 8 rfl rfl)
theorem dX3_insert_58 : decode cX3_insert 58 = .ok (.aload_n 0, 1) := dk_42 (dk_at dksX3_insert_2 11 rfl rfl)
theorem dX3_insert_59 : decode cX3_insert 59 = .ok (.iload_n 2, 1) := dk_28 (dk_at dksX3_insert_2 12 rfl rfl)
theorem dX3_insert_60 : decode cX3_insert 60 = .ok (.invokevirtual 291, 3) := dk_182 1 35 (dk_at dksX3_insert_2 13 rfl rfl)
theorem dX3_insert_63 : decode cX3_insert 63 = .ok (.ifCond .ne 10, 3) := dk_154 0 10 (dk_at dksX3_insert_2 16 rfl rfl)
theorem dX3_insert_66 : decode cX3_insert 66 = .ok (.aload_n 0, 1) := dk_42 (dk_at dksX3_insert_2 19 rfl rfl)
theorem dX3_insert_67 : decode cX3_insert 67 = .ok (.iconst 2, 1) := dk_5 (dk_at dksX3_insert_2 20 rfl rfl)
theorem dX3_insert_68 : decode cX3_insert 68 = .ok (.putfield 1, 3) := dk_181 0 1 (dk_at dksX3_insert_2 21 rfl rfl)
theorem dX3_insert_71 : decode cX3_insert 71 = .ok (.iconst 0, 1) := dk_3 (dk_at dksX3_insert_3 0 rfl rfl)
theorem dX3_insert_72 : decode cX3_insert 72 = .ok (.ireturn, 1) := dk_172 (dk_at dksX3_insert_3 1 rfl rfl)
theorem dX3_insert_73 : decode cX3_insert 73 = .ok (.aload_n 0, 1) := dk_42 (dk_at dksX3_insert_3 2 rfl rfl)
theorem dX3_insert_74 : decode cX3_insert 74 = .ok (.invokevirtual 294, 3) := dk_182 1 38 (dk_at dksX3_insert_3 3 rfl rfl)
theorem dX3_insert_77 : decode cX3_insert 77 = .ok (.aload_n 0, 1) := dk_42 (dk_at dksX3_insert_3 6 rfl rfl)
theorem dX3_insert_78 : decode cX3_insert 78 = .ok (.invokevirtual 99, 3) := dk_182 0 99 (dk_at dksX3_insert_3 7 rfl rfl)
theorem dX3_insert_81 : decode cX3_insert 81 = .ok (.istore_n 3, 1) := dk_62 (dk_at dksX3_insert_3 10 rfl rfl)
theorem dX3_insert_82 : decode cX3_insert 82 = .ok (.aload_n 0, 1) := dk_42 (dk_at dksX3_insert_3 11 rfl rfl)
theorem dX3_insert_83 : decode cX3_insert 83 = .ok (.aload_n 0, 1) := dk_42 (dk_at dksX3_insert_3 12 rfl rfl)
theorem dX3_insert_84 : decode cX3_insert 84 = .ok (.getfield 13, 3) := dk_180 0 13 (dk_at dksX3_insert_3 13 rfl rfl)
theorem dX3_insert_87 : decode cX3_insert 87 = .ok (.iconst 0, 1) := dk_3 (dk_at dksX3_insert_3 16 rfl rfl)
theorem dX3_insert_88 : decode cX3_insert 88 = .ok (.iaload, 1) := dk_46 (dk_at dksX3_insert_3 17 rfl rfl)
theorem dX3_insert_89 : decode cX3_insert 89 = .ok (.iload_n 2, 1) := dk_28 (dk_at dksX3_insert_3 18 rfl rfl)
theorem dX3_insert_90 : decode cX3_insert 90 = .ok (.invokevirtual 297, 3) := dk_182 1 41 (dk_at dksX3_insert_3 19 rfl rfl)
theorem dX3_insert_93 : decode cX3_insert 93 = .ok (.aload_n 0, 1) := dk_42 (dk_at dksX3_insert_3 22 rfl rfl)
theorem dX3_insert_94 : decode cX3_insert 94 = .ok (.getfield 13, 3) := dk_180 0 13 (dk_at dksX3_insert_4 0 rfl rfl)
theorem dX3_insert_97 : decode cX3_insert 97 = .ok (.iload_n 3, 1) := dk_29 (dk_at dksX3_insert_4 3 rfl rfl)
theorem dX3_insert_98 : decode cX3_insert 98 = .ok (.iconst 0, 1) := dk_3 (dk_at dksX3_insert_4 4 rfl rfl)
theorem dX3_insert_99 : decode cX3_insert 99 = .ok (.iadd, 1) := dk_96 (dk_at dksX3_insert_4 5 rfl rfl)
theorem dX3_insert_100 : decode cX3_insert 100 = .ok (.iaload, 1) := dk_46 (dk_at dksX3_insert_4 6 rfl rfl)
theorem dX3_insert_101 : decode cX3_insert 101 = .ok (.istore 4, 2) := dk_54 4 (dk_at dksX3_insert_4 7 rfl rfl)
theorem dX3_insert_103 : decode cX3_insert 103 = .ok (.aload_n 0, 1) := dk_42 (dk_at dksX3_insert_4 9 rfl rfl)
theorem dX3_insert_104 : decode cX3_insert 104 = .ok (.iload_n 1, 1) := dk_27 (dk_at dksX3_insert_4 10 rfl rfl)
theorem dX3_insert_105 : decode cX3_insert 105 = .ok (.invokevirtual 300, 3) := dk_182 1 44 (dk_at dksX3_insert_4 11 rfl rfl)
theorem dX3_insert_108 : decode cX3_insert 108 = .ok (.iload 4, 2) := dk_21 4 (dk_at dksX3_insert_4 14 rfl rfl)
theorem dX3_insert_110 : decode cX3_insert 110 = .ok (.ireturn, 1) := dk_172 (dk_at dksX3_insert_4 16 rfl rfl)
abbrev cX3_isText : ByteArray := prog_21_method_100_code
def yX3_isText : MethodName := ⟨RX3, "isText", "(I)Z"⟩
def dkwX3_isText_1 : List UInt8 := [154, 0, 5, 3, 172, 132, 2, 1, 167, 255, 234, 4, 172]
abbrev dktX3_isText_1 : List UInt8 := dkwX3_isText_1 ++ []
def dkwX3_isText_0 : List UInt8 := [27, 16, 24, 164, 0, 5, 3, 172, 3, 61, 28, 27, 162, 0, 23, 42, 180, 0, 30, 28, 51, 184, 0, 107]
abbrev dktX3_isText_0 : List UInt8 := dkwX3_isText_0 ++ dktX3_isText_1
theorem dksX3_isText_0 : cX3_isText.data.toList.drop 0 = dktX3_isText_0 := by decide +kernel
theorem dksX3_isText_1 : cX3_isText.data.toList.drop 24 = dktX3_isText_1 := dk_seg dksX3_isText_0 24 rfl rfl
theorem dX3_isText_0 : decode cX3_isText 0 = .ok (.iload_n 1, 1) := dk_27 (dk_at dksX3_isText_0 0 rfl rfl)
theorem dX3_isText_1 : decode cX3_isText 1 = .ok (.bipush 24, 2) := dk_16 24 (dk_at dksX3_isText_0 1 rfl rfl)
theorem dX3_isText_3 : decode cX3_isText 3 = .ok (.if_icmp .le 5, 3) := dk_164 0 5 (dk_at dksX3_isText_0 3 rfl rfl)
theorem dX3_isText_6 : decode cX3_isText 6 = .ok (.iconst 0, 1) := dk_3 (dk_at dksX3_isText_0 6 rfl rfl)
theorem dX3_isText_7 : decode cX3_isText 7 = .ok (.ireturn, 1) := dk_172 (dk_at dksX3_isText_0 7 rfl rfl)
theorem dX3_isText_8 : decode cX3_isText 8 = .ok (.iconst 0, 1) := dk_3 (dk_at dksX3_isText_0 8 rfl rfl)
theorem dX3_isText_9 : decode cX3_isText 9 = .ok (.istore_n 2, 1) := dk_61 (dk_at dksX3_isText_0 9 rfl rfl)
theorem dX3_isText_10 : decode cX3_isText 10 = .ok (.iload_n 2, 1) := dk_28 (dk_at dksX3_isText_0 10 rfl rfl)
theorem dX3_isText_11 : decode cX3_isText 11 = .ok (.iload_n 1, 1) := dk_27 (dk_at dksX3_isText_0 11 rfl rfl)
theorem dX3_isText_12 : decode cX3_isText 12 = .ok (.if_icmp .ge 23, 3) := dk_162 0 23 (dk_at dksX3_isText_0 12 rfl rfl)
theorem dX3_isText_15 : decode cX3_isText 15 = .ok (.aload_n 0, 1) := dk_42 (dk_at dksX3_isText_0 15 rfl rfl)
theorem dX3_isText_16 : decode cX3_isText 16 = .ok (.getfield 30, 3) := dk_180 0 30 (dk_at dksX3_isText_0 16 rfl rfl)
theorem dX3_isText_19 : decode cX3_isText 19 = .ok (.iload_n 2, 1) := dk_28 (dk_at dksX3_isText_0 19 rfl rfl)
theorem dX3_isText_20 : decode cX3_isText 20 = .ok (.baload, 1) := dk_51 (dk_at dksX3_isText_0 20 rfl rfl)
theorem dX3_isText_21 : decode cX3_isText 21 = .ok (.invokestatic 107, 3) := dk_184 0 107 (dk_at dksX3_isText_0 21 rfl rfl)
theorem dX3_isText_24 : decode cX3_isText 24 = .ok (.ifCond .ne 5, 3) := dk_154 0 5 (dk_at dksX3_isText_1 0 rfl rfl)
theorem dX3_isText_27 : decode cX3_isText 27 = .ok (.iconst 0, 1) := dk_3 (dk_at dksX3_isText_1 3 rfl rfl)
theorem dX3_isText_28 : decode cX3_isText 28 = .ok (.ireturn, 1) := dk_172 (dk_at dksX3_isText_1 4 rfl rfl)
theorem dX3_isText_29 : decode cX3_isText 29 = .ok (.iinc 2 1, 3) := dk_132 2 1 (dk_at dksX3_isText_1 5 rfl rfl)
theorem dX3_isText_32 : decode cX3_isText 32 = .ok (.goto (-22), 3) := dk_167 255 234 (dk_at dksX3_isText_1 8 rfl rfl)
theorem dX3_isText_35 : decode cX3_isText 35 = .ok (.iconst 1, 1) := dk_4 (dk_at dksX3_isText_1 11 rfl rfl)
theorem dX3_isText_36 : decode cX3_isText 36 = .ok (.ireturn, 1) := dk_172 (dk_at dksX3_isText_1 12 rfl rfl)
abbrev cX3_remembers : ByteArray := prog_21_method_99_code
def yX3_remembers : MethodName := ⟨RX3, "remembers", "()V"⟩
def dkwX3_remembers_3 : List UInt8 := [89, 180, 0, 122, 4, 96, 181, 0, 122, 177]
abbrev dktX3_remembers_3 : List UInt8 := dkwX3_remembers_3 ++ []
def dkwX3_remembers_2 : List UInt8 := [181, 0, 122, 42, 180, 0, 13, 3, 42, 180, 0, 20, 42, 180, 0, 122, 17, 8, 147, 104, 184, 0, 115, 42]
abbrev dktX3_remembers_2 : List UInt8 := dkwX3_remembers_2 ++ dktX3_remembers_3
def dkwX3_remembers_1 : List UInt8 := [180, 0, 20, 27, 17, 8, 147, 96, 46, 79, 132, 1, 1, 167, 255, 230, 42, 89, 180, 0, 122, 4, 100]
abbrev dktX3_remembers_1 : List UInt8 := dkwX3_remembers_1 ++ dktX3_remembers_2
def dkwX3_remembers_0 : List UInt8 := [42, 180, 0, 122, 16, 8, 160, 0, 44, 3, 60, 27, 17, 60, 5, 162, 0, 25, 42, 180, 0, 20, 27, 42]
abbrev dktX3_remembers_0 : List UInt8 := dkwX3_remembers_0 ++ dktX3_remembers_1
theorem dksX3_remembers_0 : cX3_remembers.data.toList.drop 0 = dktX3_remembers_0 := by decide +kernel
theorem dksX3_remembers_1 : cX3_remembers.data.toList.drop 24 = dktX3_remembers_1 := dk_seg dksX3_remembers_0 24 rfl rfl
theorem dksX3_remembers_2 : cX3_remembers.data.toList.drop 47 = dktX3_remembers_2 := dk_seg dksX3_remembers_1 23 rfl rfl
theorem dksX3_remembers_3 : cX3_remembers.data.toList.drop 71 = dktX3_remembers_3 := dk_seg dksX3_remembers_2 24 rfl rfl
theorem dX3_remembers_0 : decode cX3_remembers 0 = .ok (.aload_n 0, 1) := dk_42 (dk_at dksX3_remembers_0 0 rfl rfl)
theorem dX3_remembers_1 : decode cX3_remembers 1 = .ok (.getfield 122, 3) := dk_180 0 122 (dk_at dksX3_remembers_0 1 rfl rfl)
theorem dX3_remembers_4 : decode cX3_remembers 4 = .ok (.bipush 8, 2) := dk_16 8 (dk_at dksX3_remembers_0 4 rfl rfl)
theorem dX3_remembers_6 : decode cX3_remembers 6 = .ok (.if_icmp .ne 44, 3) := dk_160 0 44 (dk_at dksX3_remembers_0 6 rfl rfl)
theorem dX3_remembers_9 : decode cX3_remembers 9 = .ok (.iconst 0, 1) := dk_3 (dk_at dksX3_remembers_0 9 rfl rfl)
theorem dX3_remembers_10 : decode cX3_remembers 10 = .ok (.istore_n 1, 1) := dk_60 (dk_at dksX3_remembers_0 10 rfl rfl)
theorem dX3_remembers_11 : decode cX3_remembers 11 = .ok (.iload_n 1, 1) := dk_27 (dk_at dksX3_remembers_0 11 rfl rfl)
theorem dX3_remembers_12 : decode cX3_remembers 12 = .ok (.sipush 15365, 3) := dk_17 60 5 (dk_at dksX3_remembers_0 12 rfl rfl)
theorem dX3_remembers_15 : decode cX3_remembers 15 = .ok (.if_icmp .ge 25, 3) := dk_162 0 25 (dk_at dksX3_remembers_0 15 rfl rfl)
theorem dX3_remembers_18 : decode cX3_remembers 18 = .ok (.aload_n 0, 1) := dk_42 (dk_at dksX3_remembers_0 18 rfl rfl)
theorem dX3_remembers_19 : decode cX3_remembers 19 = .ok (.getfield 20, 3) := dk_180 0 20 (dk_at dksX3_remembers_0 19 rfl rfl)
theorem dX3_remembers_22 : decode cX3_remembers 22 = .ok (.iload_n 1, 1) := dk_27 (dk_at dksX3_remembers_0 22 rfl rfl)
theorem dX3_remembers_23 : decode cX3_remembers 23 = .ok (.aload_n 0, 1) := dk_42 (dk_at dksX3_remembers_0 23 rfl rfl)
theorem dX3_remembers_24 : decode cX3_remembers 24 = .ok (.getfield 20, 3) := dk_180 0 20 (dk_at dksX3_remembers_1 0 rfl rfl)
theorem dX3_remembers_27 : decode cX3_remembers 27 = .ok (.iload_n 1, 1) := dk_27 (dk_at dksX3_remembers_1 3 rfl rfl)
theorem dX3_remembers_28 : decode cX3_remembers 28 = .ok (.sipush 2195, 3) := dk_17 8 147 (dk_at dksX3_remembers_1 4 rfl rfl)
theorem dX3_remembers_31 : decode cX3_remembers 31 = .ok (.iadd, 1) := dk_96 (dk_at dksX3_remembers_1 7 rfl rfl)
theorem dX3_remembers_32 : decode cX3_remembers 32 = .ok (.iaload, 1) := dk_46 (dk_at dksX3_remembers_1 8 rfl rfl)
theorem dX3_remembers_33 : decode cX3_remembers 33 = .ok (.iastore, 1) := dk_79 (dk_at dksX3_remembers_1 9 rfl rfl)
theorem dX3_remembers_34 : decode cX3_remembers 34 = .ok (.iinc 1 1, 3) := dk_132 1 1 (dk_at dksX3_remembers_1 10 rfl rfl)
theorem dX3_remembers_37 : decode cX3_remembers 37 = .ok (.goto (-26), 3) := dk_167 255 230 (dk_at dksX3_remembers_1 13 rfl rfl)
theorem dX3_remembers_40 : decode cX3_remembers 40 = .ok (.aload_n 0, 1) := dk_42 (dk_at dksX3_remembers_1 16 rfl rfl)
theorem dX3_remembers_41 : decode cX3_remembers 41 = .ok (.dup, 1) := dk_89 (dk_at dksX3_remembers_1 17 rfl rfl)
theorem dX3_remembers_42 : decode cX3_remembers 42 = .ok (.getfield 122, 3) := dk_180 0 122 (dk_at dksX3_remembers_1 18 rfl rfl)
theorem dX3_remembers_45 : decode cX3_remembers 45 = .ok (.iconst 1, 1) := dk_4 (dk_at dksX3_remembers_1 21 rfl rfl)
theorem dX3_remembers_46 : decode cX3_remembers 46 = .ok (.isub, 1) := dk_100 (dk_at dksX3_remembers_1 22 rfl rfl)
theorem dX3_remembers_47 : decode cX3_remembers 47 = .ok (.putfield 122, 3) := dk_181 0 122 (dk_at dksX3_remembers_2 0 rfl rfl)
theorem dX3_remembers_50 : decode cX3_remembers 50 = .ok (.aload_n 0, 1) := dk_42 (dk_at dksX3_remembers_2 3 rfl rfl)
theorem dX3_remembers_51 : decode cX3_remembers 51 = .ok (.getfield 13, 3) := dk_180 0 13 (dk_at dksX3_remembers_2 4 rfl rfl)
theorem dX3_remembers_54 : decode cX3_remembers 54 = .ok (.iconst 0, 1) := dk_3 (dk_at dksX3_remembers_2 7 rfl rfl)
theorem dX3_remembers_55 : decode cX3_remembers 55 = .ok (.aload_n 0, 1) := dk_42 (dk_at dksX3_remembers_2 8 rfl rfl)
theorem dX3_remembers_56 : decode cX3_remembers 56 = .ok (.getfield 20, 3) := dk_180 0 20 (dk_at dksX3_remembers_2 9 rfl rfl)
theorem dX3_remembers_59 : decode cX3_remembers 59 = .ok (.aload_n 0, 1) := dk_42 (dk_at dksX3_remembers_2 12 rfl rfl)
theorem dX3_remembers_60 : decode cX3_remembers 60 = .ok (.getfield 122, 3) := dk_180 0 122 (dk_at dksX3_remembers_2 13 rfl rfl)
theorem dX3_remembers_63 : decode cX3_remembers 63 = .ok (.sipush 2195, 3) := dk_17 8 147 (dk_at dksX3_remembers_2 16 rfl rfl)
theorem dX3_remembers_66 : decode cX3_remembers 66 = .ok (.imul, 1) := dk_104 (dk_at dksX3_remembers_2 19 rfl rfl)
theorem dX3_remembers_67 : decode cX3_remembers 67 = .ok (.invokestatic 115, 3) := dk_184 0 115 (dk_at dksX3_remembers_2 20 rfl rfl)
theorem dX3_remembers_70 : decode cX3_remembers 70 = .ok (.aload_n 0, 1) := dk_42 (dk_at dksX3_remembers_2 23 rfl rfl)
theorem dX3_remembers_71 : decode cX3_remembers 71 = .ok (.dup, 1) := dk_89 (dk_at dksX3_remembers_3 0 rfl rfl)
theorem dX3_remembers_72 : decode cX3_remembers 72 = .ok (.getfield 122, 3) := dk_180 0 122 (dk_at dksX3_remembers_3 1 rfl rfl)
theorem dX3_remembers_75 : decode cX3_remembers 75 = .ok (.iconst 1, 1) := dk_4 (dk_at dksX3_remembers_3 4 rfl rfl)
theorem dX3_remembers_76 : decode cX3_remembers 76 = .ok (.iadd, 1) := dk_96 (dk_at dksX3_remembers_3 5 rfl rfl)
theorem dX3_remembers_77 : decode cX3_remembers 77 = .ok (.putfield 122, 3) := dk_181 0 122 (dk_at dksX3_remembers_3 6 rfl rfl)
theorem dX3_remembers_80 : decode cX3_remembers 80 = .ok (.return_, 1) := dk_177 (dk_at dksX3_remembers_3 9 rfl rfl)
abbrev cX3_laysText : ByteArray := prog_21_method_101_code
def yX3_laysText : MethodName := ⟨RX3, "laysText", "(II)V"⟩
def dkwX3_laysText_1 : List UInt8 := [51, 79, 132, 3, 1, 167, 255, 229, 42, 180, 0, 13, 27, 184, 0, 125, 5, 96, 28, 79, 177]
abbrev dktX3_laysText_1 : List UInt8 := dkwX3_laysText_1 ++ []
def dkwX3_laysText_0 : List UInt8 := [3, 62, 29, 28, 162, 0, 28, 42, 180, 0, 13, 27, 184, 0, 125, 6, 96, 29, 96, 42, 180, 0, 30, 29]
abbrev dktX3_laysText_0 : List UInt8 := dkwX3_laysText_0 ++ dktX3_laysText_1
theorem dksX3_laysText_0 : cX3_laysText.data.toList.drop 0 = dktX3_laysText_0 := by decide +kernel
theorem dksX3_laysText_1 : cX3_laysText.data.toList.drop 24 = dktX3_laysText_1 := dk_seg dksX3_laysText_0 24 rfl rfl
theorem dX3_laysText_0 : decode cX3_laysText 0 = .ok (.iconst 0, 1) := dk_3 (dk_at dksX3_laysText_0 0 rfl rfl)
theorem dX3_laysText_1 : decode cX3_laysText 1 = .ok (.istore_n 3, 1) := dk_62 (dk_at dksX3_laysText_0 1 rfl rfl)
theorem dX3_laysText_2 : decode cX3_laysText 2 = .ok (.iload_n 3, 1) := dk_29 (dk_at dksX3_laysText_0 2 rfl rfl)
theorem dX3_laysText_3 : decode cX3_laysText 3 = .ok (.iload_n 2, 1) := dk_28 (dk_at dksX3_laysText_0 3 rfl rfl)
theorem dX3_laysText_4 : decode cX3_laysText 4 = .ok (.if_icmp .ge 28, 3) := dk_162 0 28 (dk_at dksX3_laysText_0 4 rfl rfl)
theorem dX3_laysText_7 : decode cX3_laysText 7 = .ok (.aload_n 0, 1) := dk_42 (dk_at dksX3_laysText_0 7 rfl rfl)
theorem dX3_laysText_8 : decode cX3_laysText 8 = .ok (.getfield 13, 3) := dk_180 0 13 (dk_at dksX3_laysText_0 8 rfl rfl)
theorem dX3_laysText_11 : decode cX3_laysText 11 = .ok (.iload_n 1, 1) := dk_27 (dk_at dksX3_laysText_0 11 rfl rfl)
theorem dX3_laysText_12 : decode cX3_laysText 12 = .ok (.invokestatic 125, 3) := dk_184 0 125 (dk_at dksX3_laysText_0 12 rfl rfl)
theorem dX3_laysText_15 : decode cX3_laysText 15 = .ok (.iconst 3, 1) := dk_6 (dk_at dksX3_laysText_0 15 rfl rfl)
theorem dX3_laysText_16 : decode cX3_laysText 16 = .ok (.iadd, 1) := dk_96 (dk_at dksX3_laysText_0 16 rfl rfl)
theorem dX3_laysText_17 : decode cX3_laysText 17 = .ok (.iload_n 3, 1) := dk_29 (dk_at dksX3_laysText_0 17 rfl rfl)
theorem dX3_laysText_18 : decode cX3_laysText 18 = .ok (.iadd, 1) := dk_96 (dk_at dksX3_laysText_0 18 rfl rfl)
theorem dX3_laysText_19 : decode cX3_laysText 19 = .ok (.aload_n 0, 1) := dk_42 (dk_at dksX3_laysText_0 19 rfl rfl)
theorem dX3_laysText_20 : decode cX3_laysText 20 = .ok (.getfield 30, 3) := dk_180 0 30 (dk_at dksX3_laysText_0 20 rfl rfl)
theorem dX3_laysText_23 : decode cX3_laysText 23 = .ok (.iload_n 3, 1) := dk_29 (dk_at dksX3_laysText_0 23 rfl rfl)
theorem dX3_laysText_24 : decode cX3_laysText 24 = .ok (.baload, 1) := dk_51 (dk_at dksX3_laysText_1 0 rfl rfl)
theorem dX3_laysText_25 : decode cX3_laysText 25 = .ok (.iastore, 1) := dk_79 (dk_at dksX3_laysText_1 1 rfl rfl)
theorem dX3_laysText_26 : decode cX3_laysText 26 = .ok (.iinc 3 1, 3) := dk_132 3 1 (dk_at dksX3_laysText_1 2 rfl rfl)
theorem dX3_laysText_29 : decode cX3_laysText 29 = .ok (.goto (-27), 3) := dk_167 255 229 (dk_at dksX3_laysText_1 5 rfl rfl)
theorem dX3_laysText_32 : decode cX3_laysText 32 = .ok (.aload_n 0, 1) := dk_42 (dk_at dksX3_laysText_1 8 rfl rfl)
theorem dX3_laysText_33 : decode cX3_laysText 33 = .ok (.getfield 13, 3) := dk_180 0 13 (dk_at dksX3_laysText_1 9 rfl rfl)
theorem dX3_laysText_36 : decode cX3_laysText 36 = .ok (.iload_n 1, 1) := dk_27 (dk_at dksX3_laysText_1 12 rfl rfl)
theorem dX3_laysText_37 : decode cX3_laysText 37 = .ok (.invokestatic 125, 3) := dk_184 0 125 (dk_at dksX3_laysText_1 13 rfl rfl)
theorem dX3_laysText_40 : decode cX3_laysText 40 = .ok (.iconst 2, 1) := dk_5 (dk_at dksX3_laysText_1 16 rfl rfl)
theorem dX3_laysText_41 : decode cX3_laysText 41 = .ok (.iadd, 1) := dk_96 (dk_at dksX3_laysText_1 17 rfl rfl)
theorem dX3_laysText_42 : decode cX3_laysText 42 = .ok (.iload_n 2, 1) := dk_28 (dk_at dksX3_laysText_1 18 rfl rfl)
theorem dX3_laysText_43 : decode cX3_laysText 43 = .ok (.iastore, 1) := dk_79 (dk_at dksX3_laysText_1 19 rfl rfl)
theorem dX3_laysText_44 : decode cX3_laysText 44 = .ok (.return_, 1) := dk_177 (dk_at dksX3_laysText_1 20 rfl rfl)
abbrev cX3_settles : ByteArray := prog_21_method_105_code
def yX3_settles : MethodName := ⟨RX3, "settles", "(I)V"⟩
def dkwX3_settles_1 : List UInt8 := [27, 28, 162, 0, 10, 42, 28, 28, 27, 182, 1, 31, 177]
abbrev dktX3_settles_1 : List UInt8 := dkwX3_settles_1 ++ []
def dkwX3_settles_0 : List UInt8 := [42, 180, 0, 13, 3, 46, 61, 28, 4, 160, 0, 15, 42, 180, 0, 13, 5, 42, 4, 3, 182, 0, 129, 79]
abbrev dktX3_settles_0 : List UInt8 := dkwX3_settles_0 ++ dktX3_settles_1
theorem dksX3_settles_0 : cX3_settles.data.toList.drop 0 = dktX3_settles_0 := by decide +kernel
theorem dksX3_settles_1 : cX3_settles.data.toList.drop 24 = dktX3_settles_1 := dk_seg dksX3_settles_0 24 rfl rfl
theorem dX3_settles_0 : decode cX3_settles 0 = .ok (.aload_n 0, 1) := dk_42 (dk_at dksX3_settles_0 0 rfl rfl)
theorem dX3_settles_1 : decode cX3_settles 1 = .ok (.getfield 13, 3) := dk_180 0 13 (dk_at dksX3_settles_0 1 rfl rfl)
theorem dX3_settles_4 : decode cX3_settles 4 = .ok (.iconst 0, 1) := dk_3 (dk_at dksX3_settles_0 4 rfl rfl)
theorem dX3_settles_5 : decode cX3_settles 5 = .ok (.iaload, 1) := dk_46 (dk_at dksX3_settles_0 5 rfl rfl)
theorem dX3_settles_6 : decode cX3_settles 6 = .ok (.istore_n 2, 1) := dk_61 (dk_at dksX3_settles_0 6 rfl rfl)
theorem dX3_settles_7 : decode cX3_settles 7 = .ok (.iload_n 2, 1) := dk_28 (dk_at dksX3_settles_0 7 rfl rfl)
theorem dX3_settles_8 : decode cX3_settles 8 = .ok (.iconst 1, 1) := dk_4 (dk_at dksX3_settles_0 8 rfl rfl)
theorem dX3_settles_9 : decode cX3_settles 9 = .ok (.if_icmp .ne 15, 3) := dk_160 0 15 (dk_at dksX3_settles_0 9 rfl rfl)
theorem dX3_settles_12 : decode cX3_settles 12 = .ok (.aload_n 0, 1) := dk_42 (dk_at dksX3_settles_0 12 rfl rfl)
theorem dX3_settles_13 : decode cX3_settles 13 = .ok (.getfield 13, 3) := dk_180 0 13 (dk_at dksX3_settles_0 13 rfl rfl)
theorem dX3_settles_16 : decode cX3_settles 16 = .ok (.iconst 2, 1) := dk_5 (dk_at dksX3_settles_0 16 rfl rfl)
theorem dX3_settles_17 : decode cX3_settles 17 = .ok (.aload_n 0, 1) := dk_42 (dk_at dksX3_settles_0 17 rfl rfl)
theorem dX3_settles_18 : decode cX3_settles 18 = .ok (.iconst 1, 1) := dk_4 (dk_at dksX3_settles_0 18 rfl rfl)
theorem dX3_settles_19 : decode cX3_settles 19 = .ok (.iconst 0, 1) := dk_3 (dk_at dksX3_settles_0 19 rfl rfl)
theorem dX3_settles_20 : decode cX3_settles 20 = .ok (.invokevirtual 129, 3) := dk_182 0 129 (dk_at dksX3_settles_0 20 rfl rfl)
theorem dX3_settles_23 : decode cX3_settles 23 = .ok (.iastore, 1) := dk_79 (dk_at dksX3_settles_0 23 rfl rfl)
theorem dX3_settles_24 : decode cX3_settles 24 = .ok (.iload_n 1, 1) := dk_27 (dk_at dksX3_settles_1 0 rfl rfl)
theorem dX3_settles_25 : decode cX3_settles 25 = .ok (.iload_n 2, 1) := dk_28 (dk_at dksX3_settles_1 1 rfl rfl)
theorem dX3_settles_26 : decode cX3_settles 26 = .ok (.if_icmp .ge 10, 3) := dk_162 0 10 (dk_at dksX3_settles_1 2 rfl rfl)
theorem dX3_settles_29 : decode cX3_settles 29 = .ok (.aload_n 0, 1) := dk_42 (dk_at dksX3_settles_1 5 rfl rfl)
theorem dX3_settles_30 : decode cX3_settles 30 = .ok (.iload_n 2, 1) := dk_28 (dk_at dksX3_settles_1 6 rfl rfl)
theorem dX3_settles_31 : decode cX3_settles 31 = .ok (.iload_n 2, 1) := dk_28 (dk_at dksX3_settles_1 7 rfl rfl)
theorem dX3_settles_32 : decode cX3_settles 32 = .ok (.iload_n 1, 1) := dk_27 (dk_at dksX3_settles_1 8 rfl rfl)
theorem dX3_settles_33 : decode cX3_settles 33 = .ok (.invokevirtual 287, 3) := dk_182 1 31 (dk_at dksX3_settles_1 9 rfl rfl)
theorem dX3_settles_36 : decode cX3_settles 36 = .ok (.return_, 1) := dk_177 (dk_at dksX3_settles_1 12 rfl rfl)
abbrev cX3_goes : ByteArray := prog_21_method_104_code
def yX3_goes : MethodName := ⟨RX3, "goes", "(III)V"⟩
def dkwX3_goes_4 : List UInt8 := [42, 182, 1, 28, 177]
abbrev dktX3_goes_4 : List UInt8 := dkwX3_goes_4 ++ []
def dkwX3_goes_3 : List UInt8 := [184, 0, 95, 154, 0, 15, 42, 180, 0, 76, 21, 4, 21, 5, 79, 132, 4, 1, 132, 5, 1, 167, 255, 174]
abbrev dktX3_goes_3 : List UInt8 := dkwX3_goes_3 ++ dktX3_goes_4
def dkwX3_goes_2 : List UInt8 := [132, 4, 1, 132, 6, 1, 167, 255, 229, 21, 5, 42, 180, 0, 13, 3, 46, 163, 0, 25, 21, 5, 27, 28]
abbrev dktX3_goes_2 : List UInt8 := dkwX3_goes_2 ++ dktX3_goes_3
def dkwX3_goes_1 : List UInt8 := [54, 6, 21, 5, 29, 160, 0, 27, 21, 6, 28, 163, 0, 21, 42, 180, 0, 76, 21, 4, 21, 6, 79]
abbrev dktX3_goes_1 : List UInt8 := dkwX3_goes_1 ++ dktX3_goes_2
def dkwX3_goes_0 : List UInt8 := [42, 182, 1, 25, 3, 54, 4, 4, 54, 5, 21, 5, 42, 180, 0, 13, 3, 46, 4, 96, 163, 0, 75, 27]
abbrev dktX3_goes_0 : List UInt8 := dkwX3_goes_0 ++ dktX3_goes_1
theorem dksX3_goes_0 : cX3_goes.data.toList.drop 0 = dktX3_goes_0 := by decide +kernel
theorem dksX3_goes_1 : cX3_goes.data.toList.drop 24 = dktX3_goes_1 := dk_seg dksX3_goes_0 24 rfl rfl
theorem dksX3_goes_2 : cX3_goes.data.toList.drop 47 = dktX3_goes_2 := dk_seg dksX3_goes_1 23 rfl rfl
theorem dksX3_goes_3 : cX3_goes.data.toList.drop 71 = dktX3_goes_3 := dk_seg dksX3_goes_2 24 rfl rfl
theorem dksX3_goes_4 : cX3_goes.data.toList.drop 95 = dktX3_goes_4 := dk_seg dksX3_goes_3 24 rfl rfl
theorem dX3_goes_0 : decode cX3_goes 0 = .ok (.aload_n 0, 1) := dk_42 (dk_at dksX3_goes_0 0 rfl rfl)
theorem dX3_goes_1 : decode cX3_goes 1 = .ok (.invokevirtual 281, 3) := dk_182 1 25 (dk_at dksX3_goes_0 1 rfl rfl)
theorem dX3_goes_4 : decode cX3_goes 4 = .ok (.iconst 0, 1) := dk_3 (dk_at dksX3_goes_0 4 rfl rfl)
theorem dX3_goes_5 : decode cX3_goes 5 = .ok (.istore 4, 2) := dk_54 4 (dk_at dksX3_goes_0 5 rfl rfl)
theorem dX3_goes_7 : decode cX3_goes 7 = .ok (.iconst 1, 1) := dk_4 (dk_at dksX3_goes_0 7 rfl rfl)
theorem dX3_goes_8 : decode cX3_goes 8 = .ok (.istore 5, 2) := dk_54 5 (dk_at dksX3_goes_0 8 rfl rfl)
theorem dX3_goes_10 : decode cX3_goes 10 = .ok (.iload 5, 2) := dk_21 5 (dk_at dksX3_goes_0 10 rfl rfl)
theorem dX3_goes_12 : decode cX3_goes 12 = .ok (.aload_n 0, 1) := dk_42 (dk_at dksX3_goes_0 12 rfl rfl)
theorem dX3_goes_13 : decode cX3_goes 13 = .ok (.getfield 13, 3) := dk_180 0 13 (dk_at dksX3_goes_0 13 rfl rfl)
theorem dX3_goes_16 : decode cX3_goes 16 = .ok (.iconst 0, 1) := dk_3 (dk_at dksX3_goes_0 16 rfl rfl)
theorem dX3_goes_17 : decode cX3_goes 17 = .ok (.iaload, 1) := dk_46 (dk_at dksX3_goes_0 17 rfl rfl)
theorem dX3_goes_18 : decode cX3_goes 18 = .ok (.iconst 1, 1) := dk_4 (dk_at dksX3_goes_0 18 rfl rfl)
theorem dX3_goes_19 : decode cX3_goes 19 = .ok (.iadd, 1) := dk_96 (dk_at dksX3_goes_0 19 rfl rfl)
theorem dX3_goes_20 : decode cX3_goes 20 = .ok (.if_icmp .gt 75, 3) := dk_163 0 75 (dk_at dksX3_goes_0 20 rfl rfl)
theorem dX3_goes_23 : decode cX3_goes 23 = .ok (.iload_n 1, 1) := dk_27 (dk_at dksX3_goes_0 23 rfl rfl)
theorem dX3_goes_24 : decode cX3_goes 24 = .ok (.istore 6, 2) := dk_54 6 (dk_at dksX3_goes_1 0 rfl rfl)
theorem dX3_goes_26 : decode cX3_goes 26 = .ok (.iload 5, 2) := dk_21 5 (dk_at dksX3_goes_1 2 rfl rfl)
theorem dX3_goes_28 : decode cX3_goes 28 = .ok (.iload_n 3, 1) := dk_29 (dk_at dksX3_goes_1 4 rfl rfl)
theorem dX3_goes_29 : decode cX3_goes 29 = .ok (.if_icmp .ne 27, 3) := dk_160 0 27 (dk_at dksX3_goes_1 5 rfl rfl)
theorem dX3_goes_32 : decode cX3_goes 32 = .ok (.iload 6, 2) := dk_21 6 (dk_at dksX3_goes_1 8 rfl rfl)
theorem dX3_goes_34 : decode cX3_goes 34 = .ok (.iload_n 2, 1) := dk_28 (dk_at dksX3_goes_1 10 rfl rfl)
theorem dX3_goes_35 : decode cX3_goes 35 = .ok (.if_icmp .gt 21, 3) := dk_163 0 21 (dk_at dksX3_goes_1 11 rfl rfl)
theorem dX3_goes_38 : decode cX3_goes 38 = .ok (.aload_n 0, 1) := dk_42 (dk_at dksX3_goes_1 14 rfl rfl)
theorem dX3_goes_39 : decode cX3_goes 39 = .ok (.getfield 76, 3) := dk_180 0 76 (dk_at dksX3_goes_1 15 rfl rfl)
theorem dX3_goes_42 : decode cX3_goes 42 = .ok (.iload 4, 2) := dk_21 4 (dk_at dksX3_goes_1 18 rfl rfl)
theorem dX3_goes_44 : decode cX3_goes 44 = .ok (.iload 6, 2) := dk_21 6 (dk_at dksX3_goes_1 20 rfl rfl)
theorem dX3_goes_46 : decode cX3_goes 46 = .ok (.iastore, 1) := dk_79 (dk_at dksX3_goes_1 22 rfl rfl)
theorem dX3_goes_47 : decode cX3_goes 47 = .ok (.iinc 4 1, 3) := dk_132 4 1 (dk_at dksX3_goes_2 0 rfl rfl)
theorem dX3_goes_50 : decode cX3_goes 50 = .ok (.iinc 6 1, 3) := dk_132 6 1 (dk_at dksX3_goes_2 3 rfl rfl)
theorem dX3_goes_53 : decode cX3_goes 53 = .ok (.goto (-27), 3) := dk_167 255 229 (dk_at dksX3_goes_2 6 rfl rfl)
theorem dX3_goes_56 : decode cX3_goes 56 = .ok (.iload 5, 2) := dk_21 5 (dk_at dksX3_goes_2 9 rfl rfl)
theorem dX3_goes_58 : decode cX3_goes 58 = .ok (.aload_n 0, 1) := dk_42 (dk_at dksX3_goes_2 11 rfl rfl)
theorem dX3_goes_59 : decode cX3_goes 59 = .ok (.getfield 13, 3) := dk_180 0 13 (dk_at dksX3_goes_2 12 rfl rfl)
theorem dX3_goes_62 : decode cX3_goes 62 = .ok (.iconst 0, 1) := dk_3 (dk_at dksX3_goes_2 15 rfl rfl)
theorem dX3_goes_63 : decode cX3_goes 63 = .ok (.iaload, 1) := dk_46 (dk_at dksX3_goes_2 16 rfl rfl)
theorem dX3_goes_64 : decode cX3_goes 64 = .ok (.if_icmp .gt 25, 3) := dk_163 0 25 (dk_at dksX3_goes_2 17 rfl rfl)
theorem dX3_goes_67 : decode cX3_goes 67 = .ok (.iload 5, 2) := dk_21 5 (dk_at dksX3_goes_2 20 rfl rfl)
theorem dX3_goes_69 : decode cX3_goes 69 = .ok (.iload_n 1, 1) := dk_27 (dk_at dksX3_goes_2 22 rfl rfl)
theorem dX3_goes_70 : decode cX3_goes 70 = .ok (.iload_n 2, 1) := dk_28 (dk_at dksX3_goes_2 23 rfl rfl)
theorem dX3_goes_71 : decode cX3_goes 71 = .ok (.invokestatic 95, 3) := dk_184 0 95 (dk_at dksX3_goes_3 0 rfl rfl)
theorem dX3_goes_74 : decode cX3_goes 74 = .ok (.ifCond .ne 15, 3) := dk_154 0 15 (dk_at dksX3_goes_3 3 rfl rfl)
theorem dX3_goes_77 : decode cX3_goes 77 = .ok (.aload_n 0, 1) := dk_42 (dk_at dksX3_goes_3 6 rfl rfl)
theorem dX3_goes_78 : decode cX3_goes 78 = .ok (.getfield 76, 3) := dk_180 0 76 (dk_at dksX3_goes_3 7 rfl rfl)
theorem dX3_goes_81 : decode cX3_goes 81 = .ok (.iload 4, 2) := dk_21 4 (dk_at dksX3_goes_3 10 rfl rfl)
theorem dX3_goes_83 : decode cX3_goes 83 = .ok (.iload 5, 2) := dk_21 5 (dk_at dksX3_goes_3 12 rfl rfl)
theorem dX3_goes_85 : decode cX3_goes 85 = .ok (.iastore, 1) := dk_79 (dk_at dksX3_goes_3 14 rfl rfl)
theorem dX3_goes_86 : decode cX3_goes 86 = .ok (.iinc 4 1, 3) := dk_132 4 1 (dk_at dksX3_goes_3 15 rfl rfl)
theorem dX3_goes_89 : decode cX3_goes 89 = .ok (.iinc 5 1, 3) := dk_132 5 1 (dk_at dksX3_goes_3 18 rfl rfl)
theorem dX3_goes_92 : decode cX3_goes 92 = .ok (.goto (-82), 3) := dk_167 255 174 (dk_at dksX3_goes_3 21 rfl rfl)
theorem dX3_goes_95 : decode cX3_goes 95 = .ok (.aload_n 0, 1) := dk_42 (dk_at dksX3_goes_4 0 rfl rfl)
theorem dX3_goes_96 : decode cX3_goes 96 = .ok (.invokevirtual 284, 3) := dk_182 1 28 (dk_at dksX3_goes_4 1 rfl rfl)
theorem dX3_goes_99 : decode cX3_goes 99 = .ok (.return_, 1) := dk_177 (dk_at dksX3_goes_4 4 rfl rfl)
abbrev cX3_laysOrder : ByteArray := prog_21_method_102_code
def yX3_laysOrder : MethodName := ⟨RX3, "laysOrder", "()V"⟩
def dkwX3_laysOrder_1 : List UInt8 := [167, 255, 234, 177]
abbrev dktX3_laysOrder_1 : List UInt8 := dkwX3_laysOrder_1 ++ []
def dkwX3_laysOrder_0 : List UInt8 := [3, 60, 27, 42, 180, 0, 13, 3, 46, 162, 0, 18, 42, 180, 0, 76, 27, 27, 4, 96, 79, 132, 1, 1]
abbrev dktX3_laysOrder_0 : List UInt8 := dkwX3_laysOrder_0 ++ dktX3_laysOrder_1
theorem dksX3_laysOrder_0 : cX3_laysOrder.data.toList.drop 0 = dktX3_laysOrder_0 := by decide +kernel
theorem dksX3_laysOrder_1 : cX3_laysOrder.data.toList.drop 24 = dktX3_laysOrder_1 := dk_seg dksX3_laysOrder_0 24 rfl rfl
theorem dX3_laysOrder_0 : decode cX3_laysOrder 0 = .ok (.iconst 0, 1) := dk_3 (dk_at dksX3_laysOrder_0 0 rfl rfl)
theorem dX3_laysOrder_1 : decode cX3_laysOrder 1 = .ok (.istore_n 1, 1) := dk_60 (dk_at dksX3_laysOrder_0 1 rfl rfl)
theorem dX3_laysOrder_2 : decode cX3_laysOrder 2 = .ok (.iload_n 1, 1) := dk_27 (dk_at dksX3_laysOrder_0 2 rfl rfl)
theorem dX3_laysOrder_3 : decode cX3_laysOrder 3 = .ok (.aload_n 0, 1) := dk_42 (dk_at dksX3_laysOrder_0 3 rfl rfl)
theorem dX3_laysOrder_4 : decode cX3_laysOrder 4 = .ok (.getfield 13, 3) := dk_180 0 13 (dk_at dksX3_laysOrder_0 4 rfl rfl)
theorem dX3_laysOrder_7 : decode cX3_laysOrder 7 = .ok (.iconst 0, 1) := dk_3 (dk_at dksX3_laysOrder_0 7 rfl rfl)
theorem dX3_laysOrder_8 : decode cX3_laysOrder 8 = .ok (.iaload, 1) := dk_46 (dk_at dksX3_laysOrder_0 8 rfl rfl)
theorem dX3_laysOrder_9 : decode cX3_laysOrder 9 = .ok (.if_icmp .ge 18, 3) := dk_162 0 18 (dk_at dksX3_laysOrder_0 9 rfl rfl)
theorem dX3_laysOrder_12 : decode cX3_laysOrder 12 = .ok (.aload_n 0, 1) := dk_42 (dk_at dksX3_laysOrder_0 12 rfl rfl)
theorem dX3_laysOrder_13 : decode cX3_laysOrder 13 = .ok (.getfield 76, 3) := dk_180 0 76 (dk_at dksX3_laysOrder_0 13 rfl rfl)
theorem dX3_laysOrder_16 : decode cX3_laysOrder 16 = .ok (.iload_n 1, 1) := dk_27 (dk_at dksX3_laysOrder_0 16 rfl rfl)
theorem dX3_laysOrder_17 : decode cX3_laysOrder 17 = .ok (.iload_n 1, 1) := dk_27 (dk_at dksX3_laysOrder_0 17 rfl rfl)
theorem dX3_laysOrder_18 : decode cX3_laysOrder 18 = .ok (.iconst 1, 1) := dk_4 (dk_at dksX3_laysOrder_0 18 rfl rfl)
theorem dX3_laysOrder_19 : decode cX3_laysOrder 19 = .ok (.iadd, 1) := dk_96 (dk_at dksX3_laysOrder_0 19 rfl rfl)
theorem dX3_laysOrder_20 : decode cX3_laysOrder 20 = .ok (.iastore, 1) := dk_79 (dk_at dksX3_laysOrder_0 20 rfl rfl)
theorem dX3_laysOrder_21 : decode cX3_laysOrder 21 = .ok (.iinc 1 1, 3) := dk_132 1 1 (dk_at dksX3_laysOrder_0 21 rfl rfl)
theorem dX3_laysOrder_24 : decode cX3_laysOrder 24 = .ok (.goto (-22), 3) := dk_167 255 234 (dk_at dksX3_laysOrder_1 0 rfl rfl)
theorem dX3_laysOrder_27 : decode cX3_laysOrder 27 = .ok (.return_, 1) := dk_177 (dk_at dksX3_laysOrder_1 3 rfl rfl)
abbrev cX3_arranges : ByteArray := prog_21_method_103_code
def yX3_arranges : MethodName := ⟨RX3, "arranges", "()V"⟩
def dkwX3_arranges_3 : List UInt8 := [180, 0, 13, 16, 35, 27, 96, 42, 180, 0, 79, 27, 46, 79, 132, 1, 1, 167, 255, 225, 177]
abbrev dktX3_arranges_3 : List UInt8 := dkwX3_arranges_3 ++ []
def dkwX3_arranges_2 : List UInt8 := [132, 1, 1, 167, 255, 207, 3, 60, 27, 16, 27, 42, 180, 0, 13, 3, 46, 104, 162, 0, 24, 42]
abbrev dktX3_arranges_2 : List UInt8 := dkwX3_arranges_2 ++ dktX3_arranges_3
def dkwX3_arranges_1 : List UInt8 := [16, 27, 27, 104, 28, 96, 42, 42, 180, 0, 76, 27, 46, 28, 182, 0, 129, 79, 132, 2, 1, 167, 255, 225]
abbrev dktX3_arranges_1 : List UInt8 := dkwX3_arranges_1 ++ dktX3_arranges_2
def dkwX3_arranges_0 : List UInt8 := [3, 60, 27, 42, 180, 0, 13, 3, 46, 162, 0, 45, 3, 61, 28, 16, 27, 162, 0, 31, 42, 180, 0, 79]
abbrev dktX3_arranges_0 : List UInt8 := dkwX3_arranges_0 ++ dktX3_arranges_1
theorem dksX3_arranges_0 : cX3_arranges.data.toList.drop 0 = dktX3_arranges_0 := by decide +kernel
theorem dksX3_arranges_1 : cX3_arranges.data.toList.drop 24 = dktX3_arranges_1 := dk_seg dksX3_arranges_0 24 rfl rfl
theorem dksX3_arranges_2 : cX3_arranges.data.toList.drop 48 = dktX3_arranges_2 := dk_seg dksX3_arranges_1 24 rfl rfl
theorem dksX3_arranges_3 : cX3_arranges.data.toList.drop 70 = dktX3_arranges_3 := dk_seg dksX3_arranges_2 22 rfl rfl
theorem dX3_arranges_0 : decode cX3_arranges 0 = .ok (.iconst 0, 1) := dk_3 (dk_at dksX3_arranges_0 0 rfl rfl)
theorem dX3_arranges_1 : decode cX3_arranges 1 = .ok (.istore_n 1, 1) := dk_60 (dk_at dksX3_arranges_0 1 rfl rfl)
theorem dX3_arranges_2 : decode cX3_arranges 2 = .ok (.iload_n 1, 1) := dk_27 (dk_at dksX3_arranges_0 2 rfl rfl)
theorem dX3_arranges_3 : decode cX3_arranges 3 = .ok (.aload_n 0, 1) := dk_42 (dk_at dksX3_arranges_0 3 rfl rfl)
theorem dX3_arranges_4 : decode cX3_arranges 4 = .ok (.getfield 13, 3) := dk_180 0 13 (dk_at dksX3_arranges_0 4 rfl rfl)
theorem dX3_arranges_7 : decode cX3_arranges 7 = .ok (.iconst 0, 1) := dk_3 (dk_at dksX3_arranges_0 7 rfl rfl)
theorem dX3_arranges_8 : decode cX3_arranges 8 = .ok (.iaload, 1) := dk_46 (dk_at dksX3_arranges_0 8 rfl rfl)
theorem dX3_arranges_9 : decode cX3_arranges 9 = .ok (.if_icmp .ge 45, 3) := dk_162 0 45 (dk_at dksX3_arranges_0 9 rfl rfl)
theorem dX3_arranges_12 : decode cX3_arranges 12 = .ok (.iconst 0, 1) := dk_3 (dk_at dksX3_arranges_0 12 rfl rfl)
theorem dX3_arranges_13 : decode cX3_arranges 13 = .ok (.istore_n 2, 1) := dk_61 (dk_at dksX3_arranges_0 13 rfl rfl)
theorem dX3_arranges_14 : decode cX3_arranges 14 = .ok (.iload_n 2, 1) := dk_28 (dk_at dksX3_arranges_0 14 rfl rfl)
theorem dX3_arranges_15 : decode cX3_arranges 15 = .ok (.bipush 27, 2) := dk_16 27 (dk_at dksX3_arranges_0 15 rfl rfl)
theorem dX3_arranges_17 : decode cX3_arranges 17 = .ok (.if_icmp .ge 31, 3) := dk_162 0 31 (dk_at dksX3_arranges_0 17 rfl rfl)
theorem dX3_arranges_20 : decode cX3_arranges 20 = .ok (.aload_n 0, 1) := dk_42 (dk_at dksX3_arranges_0 20 rfl rfl)
theorem dX3_arranges_21 : decode cX3_arranges 21 = .ok (.getfield 79, 3) := dk_180 0 79 (dk_at dksX3_arranges_0 21 rfl rfl)
theorem dX3_arranges_24 : decode cX3_arranges 24 = .ok (.bipush 27, 2) := dk_16 27 (dk_at dksX3_arranges_1 0 rfl rfl)
theorem dX3_arranges_26 : decode cX3_arranges 26 = .ok (.iload_n 1, 1) := dk_27 (dk_at dksX3_arranges_1 2 rfl rfl)
theorem dX3_arranges_27 : decode cX3_arranges 27 = .ok (.imul, 1) := dk_104 (dk_at dksX3_arranges_1 3 rfl rfl)
theorem dX3_arranges_28 : decode cX3_arranges 28 = .ok (.iload_n 2, 1) := dk_28 (dk_at dksX3_arranges_1 4 rfl rfl)
theorem dX3_arranges_29 : decode cX3_arranges 29 = .ok (.iadd, 1) := dk_96 (dk_at dksX3_arranges_1 5 rfl rfl)
theorem dX3_arranges_30 : decode cX3_arranges 30 = .ok (.aload_n 0, 1) := dk_42 (dk_at dksX3_arranges_1 6 rfl rfl)
theorem dX3_arranges_31 : decode cX3_arranges 31 = .ok (.aload_n 0, 1) := dk_42 (dk_at dksX3_arranges_1 7 rfl rfl)
theorem dX3_arranges_32 : decode cX3_arranges 32 = .ok (.getfield 76, 3) := dk_180 0 76 (dk_at dksX3_arranges_1 8 rfl rfl)
theorem dX3_arranges_35 : decode cX3_arranges 35 = .ok (.iload_n 1, 1) := dk_27 (dk_at dksX3_arranges_1 11 rfl rfl)
theorem dX3_arranges_36 : decode cX3_arranges 36 = .ok (.iaload, 1) := dk_46 (dk_at dksX3_arranges_1 12 rfl rfl)
theorem dX3_arranges_37 : decode cX3_arranges 37 = .ok (.iload_n 2, 1) := dk_28 (dk_at dksX3_arranges_1 13 rfl rfl)
theorem dX3_arranges_38 : decode cX3_arranges 38 = .ok (.invokevirtual 129, 3) := dk_182 0 129 (dk_at dksX3_arranges_1 14 rfl rfl)
theorem dX3_arranges_41 : decode cX3_arranges 41 = .ok (.iastore, 1) := dk_79 (dk_at dksX3_arranges_1 17 rfl rfl)
theorem dX3_arranges_42 : decode cX3_arranges 42 = .ok (.iinc 2 1, 3) := dk_132 2 1 (dk_at dksX3_arranges_1 18 rfl rfl)
theorem dX3_arranges_45 : decode cX3_arranges 45 = .ok (.goto (-31), 3) := dk_167 255 225 (dk_at dksX3_arranges_1 21 rfl rfl)
theorem dX3_arranges_48 : decode cX3_arranges 48 = .ok (.iinc 1 1, 3) := dk_132 1 1 (dk_at dksX3_arranges_2 0 rfl rfl)
theorem dX3_arranges_51 : decode cX3_arranges 51 = .ok (.goto (-49), 3) := dk_167 255 207 (dk_at dksX3_arranges_2 3 rfl rfl)
theorem dX3_arranges_54 : decode cX3_arranges 54 = .ok (.iconst 0, 1) := dk_3 (dk_at dksX3_arranges_2 6 rfl rfl)
theorem dX3_arranges_55 : decode cX3_arranges 55 = .ok (.istore_n 1, 1) := dk_60 (dk_at dksX3_arranges_2 7 rfl rfl)
theorem dX3_arranges_56 : decode cX3_arranges 56 = .ok (.iload_n 1, 1) := dk_27 (dk_at dksX3_arranges_2 8 rfl rfl)
theorem dX3_arranges_57 : decode cX3_arranges 57 = .ok (.bipush 27, 2) := dk_16 27 (dk_at dksX3_arranges_2 9 rfl rfl)
theorem dX3_arranges_59 : decode cX3_arranges 59 = .ok (.aload_n 0, 1) := dk_42 (dk_at dksX3_arranges_2 11 rfl rfl)
theorem dX3_arranges_60 : decode cX3_arranges 60 = .ok (.getfield 13, 3) := dk_180 0 13 (dk_at dksX3_arranges_2 12 rfl rfl)
theorem dX3_arranges_63 : decode cX3_arranges 63 = .ok (.iconst 0, 1) := dk_3 (dk_at dksX3_arranges_2 15 rfl rfl)
theorem dX3_arranges_64 : decode cX3_arranges 64 = .ok (.iaload, 1) := dk_46 (dk_at dksX3_arranges_2 16 rfl rfl)
theorem dX3_arranges_65 : decode cX3_arranges 65 = .ok (.imul, 1) := dk_104 (dk_at dksX3_arranges_2 17 rfl rfl)
theorem dX3_arranges_66 : decode cX3_arranges 66 = .ok (.if_icmp .ge 24, 3) := dk_162 0 24 (dk_at dksX3_arranges_2 18 rfl rfl)
theorem dX3_arranges_69 : decode cX3_arranges 69 = .ok (.aload_n 0, 1) := dk_42 (dk_at dksX3_arranges_2 21 rfl rfl)
theorem dX3_arranges_70 : decode cX3_arranges 70 = .ok (.getfield 13, 3) := dk_180 0 13 (dk_at dksX3_arranges_3 0 rfl rfl)
theorem dX3_arranges_73 : decode cX3_arranges 73 = .ok (.bipush 35, 2) := dk_16 35 (dk_at dksX3_arranges_3 3 rfl rfl)
theorem dX3_arranges_75 : decode cX3_arranges 75 = .ok (.iload_n 1, 1) := dk_27 (dk_at dksX3_arranges_3 5 rfl rfl)
theorem dX3_arranges_76 : decode cX3_arranges 76 = .ok (.iadd, 1) := dk_96 (dk_at dksX3_arranges_3 6 rfl rfl)
theorem dX3_arranges_77 : decode cX3_arranges 77 = .ok (.aload_n 0, 1) := dk_42 (dk_at dksX3_arranges_3 7 rfl rfl)
theorem dX3_arranges_78 : decode cX3_arranges 78 = .ok (.getfield 79, 3) := dk_180 0 79 (dk_at dksX3_arranges_3 8 rfl rfl)
theorem dX3_arranges_81 : decode cX3_arranges 81 = .ok (.iload_n 1, 1) := dk_27 (dk_at dksX3_arranges_3 11 rfl rfl)
theorem dX3_arranges_82 : decode cX3_arranges 82 = .ok (.iaload, 1) := dk_46 (dk_at dksX3_arranges_3 12 rfl rfl)
theorem dX3_arranges_83 : decode cX3_arranges 83 = .ok (.iastore, 1) := dk_79 (dk_at dksX3_arranges_3 13 rfl rfl)
theorem dX3_arranges_84 : decode cX3_arranges 84 = .ok (.iinc 1 1, 3) := dk_132 1 1 (dk_at dksX3_arranges_3 14 rfl rfl)
theorem dX3_arranges_87 : decode cX3_arranges 87 = .ok (.goto (-31), 3) := dk_167 255 225 (dk_at dksX3_arranges_3 17 rfl rfl)
theorem dX3_arranges_90 : decode cX3_arranges 90 = .ok (.return_, 1) := dk_177 (dk_at dksX3_arranges_3 20 rfl rfl)
abbrev cX3_replace : ByteArray := prog_21_method_107_code
def yX3_replace : MethodName := ⟨RX3, "replace", "(II)I"⟩
def dkwX3_replace_3 : List UInt8 := [182, 1, 41, 29, 172]
abbrev dktX3_replace_3 : List UInt8 := dkwX3_replace_3 ++ []
def dkwX3_replace_2 : List UInt8 := [154, 0, 10, 42, 5, 181, 0, 1, 3, 172, 42, 182, 1, 38, 42, 27, 182, 0, 139, 62, 42, 27, 28]
abbrev dktX3_replace_2 : List UInt8 := dkwX3_replace_2 ++ dktX3_replace_3
def dkwX3_replace_1 : List UInt8 := [167, 0, 4, 3, 182, 0, 111, 154, 0, 5, 3, 172, 42, 3, 181, 0, 85, 42, 28, 182, 1, 35]
abbrev dktX3_replace_1 : List UInt8 := dkwX3_replace_1 ++ dktX3_replace_2
def dkwX3_replace_0 : List UInt8 := [42, 42, 27, 182, 0, 167, 153, 0, 19, 28, 3, 42, 180, 0, 85, 184, 0, 95, 153, 0, 7, 4]
abbrev dktX3_replace_0 : List UInt8 := dkwX3_replace_0 ++ dktX3_replace_1
theorem dksX3_replace_0 : cX3_replace.data.toList.drop 0 = dktX3_replace_0 := by decide +kernel
theorem dksX3_replace_1 : cX3_replace.data.toList.drop 22 = dktX3_replace_1 := dk_seg dksX3_replace_0 22 rfl rfl
theorem dksX3_replace_2 : cX3_replace.data.toList.drop 44 = dktX3_replace_2 := dk_seg dksX3_replace_1 22 rfl rfl
theorem dksX3_replace_3 : cX3_replace.data.toList.drop 67 = dktX3_replace_3 := dk_seg dksX3_replace_2 23 rfl rfl
theorem dX3_replace_0 : decode cX3_replace 0 = .ok (.aload_n 0, 1) := dk_42 (dk_at dksX3_replace_0 0 rfl rfl)
theorem dX3_replace_1 : decode cX3_replace 1 = .ok (.aload_n 0, 1) := dk_42 (dk_at dksX3_replace_0 1 rfl rfl)
theorem dX3_replace_2 : decode cX3_replace 2 = .ok (.iload_n 1, 1) := dk_27 (dk_at dksX3_replace_0 2 rfl rfl)
theorem dX3_replace_3 : decode cX3_replace 3 = .ok (.invokevirtual 167, 3) := dk_182 0 167 (dk_at dksX3_replace_0 3 rfl rfl)
theorem dX3_replace_6 : decode cX3_replace 6 = .ok (.ifCond .eq 19, 3) := dk_153 0 19 (dk_at dksX3_replace_0 6 rfl rfl)
theorem dX3_replace_9 : decode cX3_replace 9 = .ok (.iload_n 2, 1) := dk_28 (dk_at dksX3_replace_0 9 rfl rfl)
theorem dX3_replace_10 : decode cX3_replace 10 = .ok (.iconst 0, 1) := dk_3 (dk_at dksX3_replace_0 10 rfl rfl)
theorem dX3_replace_11 : decode cX3_replace 11 = .ok (.aload_n 0, 1) := dk_42 (dk_at dksX3_replace_0 11 rfl rfl)
theorem dX3_replace_12 : decode cX3_replace 12 = .ok (.getfield 85, 3) := dk_180 0 85 (dk_at dksX3_replace_0 12 rfl rfl)
theorem dX3_replace_15 : decode cX3_replace 15 = .ok (.invokestatic 95, 3) := dk_184 0 95 (dk_at dksX3_replace_0 15 rfl rfl)
theorem dX3_replace_18 : decode cX3_replace 18 = .ok (.ifCond .eq 7, 3) := dk_153 0 7 (dk_at dksX3_replace_0 18 rfl rfl)
theorem dX3_replace_21 : decode cX3_replace 21 = .ok (.iconst 1, 1) := dk_4 (dk_at dksX3_replace_0 21 rfl rfl)
theorem dX3_replace_22 : decode cX3_replace 22 = .ok (.goto 4, 3) := dk_167 0 4 (dk_at dksX3_replace_1 0 rfl rfl)
theorem dX3_replace_25 : decode cX3_replace 25 = .ok (.iconst 0, 1) := dk_3 (dk_at dksX3_replace_1 3 rfl rfl)
theorem dX3_replace_26 : decode cX3_replace 26 = .ok (.invokevirtual 111, 3) := dk_182 0 111 (dk_at dksX3_replace_1 4 rfl rfl)
theorem dX3_replace_29 : decode cX3_replace 29 = .ok (.ifCond .ne 5, 3) := dk_154 0 5 (dk_at dksX3_replace_1 7 rfl rfl)
theorem dX3_replace_32 : decode cX3_replace 32 = .ok (.iconst 0, 1) := dk_3 (dk_at dksX3_replace_1 10 rfl rfl)
theorem dX3_replace_33 : decode cX3_replace 33 = .ok (.ireturn, 1) := dk_172 (dk_at dksX3_replace_1 11 rfl rfl)
theorem dX3_replace_34 : decode cX3_replace 34 = .ok (.aload_n 0, 1) := dk_42 (dk_at dksX3_replace_1 12 rfl rfl)
theorem dX3_replace_35 : decode cX3_replace 35 = .ok (.iconst 0, 1) := dk_3 (dk_at dksX3_replace_1 13 rfl rfl)
theorem dX3_replace_36 : decode cX3_replace 36 = .ok (.putfield 85, 3) := dk_181 0 85 (dk_at dksX3_replace_1 14 rfl rfl)
theorem dX3_replace_39 : decode cX3_replace 39 = .ok (.aload_n 0, 1) := dk_42 (dk_at dksX3_replace_1 17 rfl rfl)
theorem dX3_replace_40 : decode cX3_replace 40 = .ok (.iload_n 2, 1) := dk_28 (dk_at dksX3_replace_1 18 rfl rfl)
theorem dX3_replace_41 : decode cX3_replace 41 = .ok (.invokevirtual 291, 3) := dk_182 1 35 (dk_at dksX3_replace_1 19 rfl rfl)
theorem dX3_replace_44 : decode cX3_replace 44 = .ok (.ifCond .ne 10, 3) := dk_154 0 10 (dk_at dksX3_replace_2 0 rfl rfl)
theorem dX3_replace_47 : decode cX3_replace 47 = .ok (.aload_n 0, 1) := dk_42 (dk_at dksX3_replace_2 3 rfl rfl)
theorem dX3_replace_48 : decode cX3_replace 48 = .ok (.iconst 2, 1) := dk_5 (dk_at dksX3_replace_2 4 rfl rfl)
theorem dX3_replace_49 : decode cX3_replace 49 = .ok (.putfield 1, 3) := dk_181 0 1 (dk_at dksX3_replace_2 5 rfl rfl)
theorem dX3_replace_52 : decode cX3_replace 52 = .ok (.iconst 0, 1) := dk_3 (dk_at dksX3_replace_2 8 rfl rfl)
theorem dX3_replace_53 : decode cX3_replace 53 = .ok (.ireturn, 1) := dk_172 (dk_at dksX3_replace_2 9 rfl rfl)
theorem dX3_replace_54 : decode cX3_replace 54 = .ok (.aload_n 0, 1) := dk_42 (dk_at dksX3_replace_2 10 rfl rfl)
theorem dX3_replace_55 : decode cX3_replace 55 = .ok (.invokevirtual 294, 3) := dk_182 1 38 (dk_at dksX3_replace_2 11 rfl rfl)
theorem dX3_replace_58 : decode cX3_replace 58 = .ok (.aload_n 0, 1) := dk_42 (dk_at dksX3_replace_2 14 rfl rfl)
theorem dX3_replace_59 : decode cX3_replace 59 = .ok (.iload_n 1, 1) := dk_27 (dk_at dksX3_replace_2 15 rfl rfl)
theorem dX3_replace_60 : decode cX3_replace 60 = .ok (.invokevirtual 139, 3) := dk_182 0 139 (dk_at dksX3_replace_2 16 rfl rfl)
theorem dX3_replace_63 : decode cX3_replace 63 = .ok (.istore_n 3, 1) := dk_62 (dk_at dksX3_replace_2 19 rfl rfl)
theorem dX3_replace_64 : decode cX3_replace 64 = .ok (.aload_n 0, 1) := dk_42 (dk_at dksX3_replace_2 20 rfl rfl)
theorem dX3_replace_65 : decode cX3_replace 65 = .ok (.iload_n 1, 1) := dk_27 (dk_at dksX3_replace_2 21 rfl rfl)
theorem dX3_replace_66 : decode cX3_replace 66 = .ok (.iload_n 2, 1) := dk_28 (dk_at dksX3_replace_2 22 rfl rfl)
theorem dX3_replace_67 : decode cX3_replace 67 = .ok (.invokevirtual 297, 3) := dk_182 1 41 (dk_at dksX3_replace_3 0 rfl rfl)
theorem dX3_replace_70 : decode cX3_replace 70 = .ok (.iload_n 3, 1) := dk_29 (dk_at dksX3_replace_3 3 rfl rfl)
theorem dX3_replace_71 : decode cX3_replace 71 = .ok (.ireturn, 1) := dk_172 (dk_at dksX3_replace_3 4 rfl rfl)
abbrev cX3_remove : ByteArray := prog_21_method_111_code
def yX3_remove : MethodName := ⟨RX3, "remove", "(II)I"⟩
def dkwX3_remove_1 : List UInt8 := [180, 0, 13, 3, 46, 172]
abbrev dktX3_remove_1 : List UInt8 := dkwX3_remove_1 ++ []
def dkwX3_remove_0 : List UInt8 := [42, 27, 28, 182, 1, 47, 154, 0, 5, 3, 172, 42, 182, 1, 38, 42, 27, 28, 182, 1, 50, 42]
abbrev dktX3_remove_0 : List UInt8 := dkwX3_remove_0 ++ dktX3_remove_1
theorem dksX3_remove_0 : cX3_remove.data.toList.drop 0 = dktX3_remove_0 := by decide +kernel
theorem dksX3_remove_1 : cX3_remove.data.toList.drop 22 = dktX3_remove_1 := dk_seg dksX3_remove_0 22 rfl rfl
theorem dX3_remove_0 : decode cX3_remove 0 = .ok (.aload_n 0, 1) := dk_42 (dk_at dksX3_remove_0 0 rfl rfl)
theorem dX3_remove_1 : decode cX3_remove 1 = .ok (.iload_n 1, 1) := dk_27 (dk_at dksX3_remove_0 1 rfl rfl)
theorem dX3_remove_2 : decode cX3_remove 2 = .ok (.iload_n 2, 1) := dk_28 (dk_at dksX3_remove_0 2 rfl rfl)
theorem dX3_remove_3 : decode cX3_remove 3 = .ok (.invokevirtual 303, 3) := dk_182 1 47 (dk_at dksX3_remove_0 3 rfl rfl)
theorem dX3_remove_6 : decode cX3_remove 6 = .ok (.ifCond .ne 5, 3) := dk_154 0 5 (dk_at dksX3_remove_0 6 rfl rfl)
theorem dX3_remove_9 : decode cX3_remove 9 = .ok (.iconst 0, 1) := dk_3 (dk_at dksX3_remove_0 9 rfl rfl)
theorem dX3_remove_10 : decode cX3_remove 10 = .ok (.ireturn, 1) := dk_172 (dk_at dksX3_remove_0 10 rfl rfl)
theorem dX3_remove_11 : decode cX3_remove 11 = .ok (.aload_n 0, 1) := dk_42 (dk_at dksX3_remove_0 11 rfl rfl)
theorem dX3_remove_12 : decode cX3_remove 12 = .ok (.invokevirtual 294, 3) := dk_182 1 38 (dk_at dksX3_remove_0 12 rfl rfl)
theorem dX3_remove_15 : decode cX3_remove 15 = .ok (.aload_n 0, 1) := dk_42 (dk_at dksX3_remove_0 15 rfl rfl)
theorem dX3_remove_16 : decode cX3_remove 16 = .ok (.iload_n 1, 1) := dk_27 (dk_at dksX3_remove_0 16 rfl rfl)
theorem dX3_remove_17 : decode cX3_remove 17 = .ok (.iload_n 2, 1) := dk_28 (dk_at dksX3_remove_0 17 rfl rfl)
theorem dX3_remove_18 : decode cX3_remove 18 = .ok (.invokevirtual 306, 3) := dk_182 1 50 (dk_at dksX3_remove_0 18 rfl rfl)
theorem dX3_remove_21 : decode cX3_remove 21 = .ok (.aload_n 0, 1) := dk_42 (dk_at dksX3_remove_0 21 rfl rfl)
theorem dX3_remove_22 : decode cX3_remove 22 = .ok (.getfield 13, 3) := dk_180 0 13 (dk_at dksX3_remove_1 0 rfl rfl)
theorem dX3_remove_25 : decode cX3_remove 25 = .ok (.iconst 0, 1) := dk_3 (dk_at dksX3_remove_1 3 rfl rfl)
theorem dX3_remove_26 : decode cX3_remove 26 = .ok (.iaload, 1) := dk_46 (dk_at dksX3_remove_1 4 rfl rfl)
theorem dX3_remove_27 : decode cX3_remove 27 = .ok (.ireturn, 1) := dk_172 (dk_at dksX3_remove_1 5 rfl rfl)
abbrev cX3_mayRange : ByteArray := prog_21_method_108_code
def yX3_mayRange : MethodName := ⟨RX3, "mayRange", "(II)Z"⟩
def dkwX3_mayRange_1 : List UInt8 := [161, 0, 7, 4, 167, 0, 4, 3, 182, 0, 170, 172]
abbrev dktX3_mayRange_1 : List UInt8 := dkwX3_mayRange_1 ++ []
def dkwX3_mayRange_0 : List UInt8 := [42, 42, 27, 182, 0, 167, 153, 0, 15, 42, 28, 182, 0, 167, 153, 0, 7, 4, 167, 0, 4, 3, 28, 27]
abbrev dktX3_mayRange_0 : List UInt8 := dkwX3_mayRange_0 ++ dktX3_mayRange_1
theorem dksX3_mayRange_0 : cX3_mayRange.data.toList.drop 0 = dktX3_mayRange_0 := by decide +kernel
theorem dksX3_mayRange_1 : cX3_mayRange.data.toList.drop 24 = dktX3_mayRange_1 := dk_seg dksX3_mayRange_0 24 rfl rfl
theorem dX3_mayRange_0 : decode cX3_mayRange 0 = .ok (.aload_n 0, 1) := dk_42 (dk_at dksX3_mayRange_0 0 rfl rfl)
theorem dX3_mayRange_1 : decode cX3_mayRange 1 = .ok (.aload_n 0, 1) := dk_42 (dk_at dksX3_mayRange_0 1 rfl rfl)
theorem dX3_mayRange_2 : decode cX3_mayRange 2 = .ok (.iload_n 1, 1) := dk_27 (dk_at dksX3_mayRange_0 2 rfl rfl)
theorem dX3_mayRange_3 : decode cX3_mayRange 3 = .ok (.invokevirtual 167, 3) := dk_182 0 167 (dk_at dksX3_mayRange_0 3 rfl rfl)
theorem dX3_mayRange_6 : decode cX3_mayRange 6 = .ok (.ifCond .eq 15, 3) := dk_153 0 15 (dk_at dksX3_mayRange_0 6 rfl rfl)
theorem dX3_mayRange_9 : decode cX3_mayRange 9 = .ok (.aload_n 0, 1) := dk_42 (dk_at dksX3_mayRange_0 9 rfl rfl)
theorem dX3_mayRange_10 : decode cX3_mayRange 10 = .ok (.iload_n 2, 1) := dk_28 (dk_at dksX3_mayRange_0 10 rfl rfl)
theorem dX3_mayRange_11 : decode cX3_mayRange 11 = .ok (.invokevirtual 167, 3) := dk_182 0 167 (dk_at dksX3_mayRange_0 11 rfl rfl)
theorem dX3_mayRange_14 : decode cX3_mayRange 14 = .ok (.ifCond .eq 7, 3) := dk_153 0 7 (dk_at dksX3_mayRange_0 14 rfl rfl)
theorem dX3_mayRange_17 : decode cX3_mayRange 17 = .ok (.iconst 1, 1) := dk_4 (dk_at dksX3_mayRange_0 17 rfl rfl)
theorem dX3_mayRange_18 : decode cX3_mayRange 18 = .ok (.goto 4, 3) := dk_167 0 4 (dk_at dksX3_mayRange_0 18 rfl rfl)
theorem dX3_mayRange_21 : decode cX3_mayRange 21 = .ok (.iconst 0, 1) := dk_3 (dk_at dksX3_mayRange_0 21 rfl rfl)
theorem dX3_mayRange_22 : decode cX3_mayRange 22 = .ok (.iload_n 2, 1) := dk_28 (dk_at dksX3_mayRange_0 22 rfl rfl)
theorem dX3_mayRange_23 : decode cX3_mayRange 23 = .ok (.iload_n 1, 1) := dk_27 (dk_at dksX3_mayRange_0 23 rfl rfl)
theorem dX3_mayRange_24 : decode cX3_mayRange 24 = .ok (.if_icmp .lt 7, 3) := dk_161 0 7 (dk_at dksX3_mayRange_1 0 rfl rfl)
theorem dX3_mayRange_27 : decode cX3_mayRange 27 = .ok (.iconst 1, 1) := dk_4 (dk_at dksX3_mayRange_1 3 rfl rfl)
theorem dX3_mayRange_28 : decode cX3_mayRange 28 = .ok (.goto 4, 3) := dk_167 0 4 (dk_at dksX3_mayRange_1 4 rfl rfl)
theorem dX3_mayRange_31 : decode cX3_mayRange 31 = .ok (.iconst 0, 1) := dk_3 (dk_at dksX3_mayRange_1 7 rfl rfl)
theorem dX3_mayRange_32 : decode cX3_mayRange 32 = .ok (.invokevirtual 170, 3) := dk_182 0 170 (dk_at dksX3_mayRange_1 8 rfl rfl)
theorem dX3_mayRange_35 : decode cX3_mayRange 35 = .ok (.ireturn, 1) := dk_172 (dk_at dksX3_mayRange_1 11 rfl rfl)
abbrev cX3_takesOut : ByteArray := prog_21_method_112_code
def yX3_takesOut : MethodName := ⟨RX3, "takesOut", "(II)V"⟩
def dkwX3_takesOut_5 : List UInt8 := [79, 132, 4, 1, 167, 255, 218, 42, 180, 0, 13, 3, 92, 46, 29, 100, 79, 177]
abbrev dktX3_takesOut_5 : List UInt8 := dkwX3_takesOut_5 ++ []
def dkwX3_takesOut_4 : List UInt8 := [184, 0, 125, 162, 0, 28, 42, 180, 0, 13, 21, 4, 16, 27, 29, 104, 100, 42, 180, 0, 13, 21, 4, 46]
abbrev dktX3_takesOut_4 : List UInt8 := dkwX3_takesOut_4 ++ dktX3_takesOut_5
def dkwX3_takesOut_3 : List UInt8 := [28, 27, 100, 4, 96, 62, 28, 4, 96, 184, 0, 125, 54, 4, 21, 4, 42, 180, 0, 13, 3, 46, 4, 96]
abbrev dktX3_takesOut_3 : List UInt8 := dkwX3_takesOut_3 ++ dktX3_takesOut_4
def dkwX3_takesOut_2 : List UInt8 := [27, 28, 182, 1, 53, 79, 42, 6, 16, 15, 27, 28, 182, 1, 57, 42, 7, 16, 25, 27, 28, 182, 1, 57]
abbrev dktX3_takesOut_2 : List UInt8 := dkwX3_takesOut_2 ++ dktX3_takesOut_3
def dkwX3_takesOut_1 : List UInt8 := [27, 28, 182, 1, 53, 79, 132, 3, 1, 167, 255, 225, 42, 180, 0, 13, 5, 42, 42, 180, 0, 13, 5, 46]
abbrev dktX3_takesOut_1 : List UInt8 := dkwX3_takesOut_1 ++ dktX3_takesOut_2
def dkwX3_takesOut_0 : List UInt8 := [3, 62, 29, 16, 10, 162, 0, 31, 42, 180, 0, 13, 8, 29, 96, 42, 42, 180, 0, 13, 8, 29, 96, 46]
abbrev dktX3_takesOut_0 : List UInt8 := dkwX3_takesOut_0 ++ dktX3_takesOut_1
theorem dksX3_takesOut_0 : cX3_takesOut.data.toList.drop 0 = dktX3_takesOut_0 := by decide +kernel
theorem dksX3_takesOut_1 : cX3_takesOut.data.toList.drop 24 = dktX3_takesOut_1 := dk_seg dksX3_takesOut_0 24 rfl rfl
theorem dksX3_takesOut_2 : cX3_takesOut.data.toList.drop 48 = dktX3_takesOut_2 := dk_seg dksX3_takesOut_1 24 rfl rfl
theorem dksX3_takesOut_3 : cX3_takesOut.data.toList.drop 72 = dktX3_takesOut_3 := dk_seg dksX3_takesOut_2 24 rfl rfl
theorem dksX3_takesOut_4 : cX3_takesOut.data.toList.drop 96 = dktX3_takesOut_4 := dk_seg dksX3_takesOut_3 24 rfl rfl
theorem dksX3_takesOut_5 : cX3_takesOut.data.toList.drop 120 = dktX3_takesOut_5 := dk_seg dksX3_takesOut_4 24 rfl rfl
theorem dX3_takesOut_0 : decode cX3_takesOut 0 = .ok (.iconst 0, 1) := dk_3 (dk_at dksX3_takesOut_0 0 rfl rfl)
theorem dX3_takesOut_1 : decode cX3_takesOut 1 = .ok (.istore_n 3, 1) := dk_62 (dk_at dksX3_takesOut_0 1 rfl rfl)
theorem dX3_takesOut_2 : decode cX3_takesOut 2 = .ok (.iload_n 3, 1) := dk_29 (dk_at dksX3_takesOut_0 2 rfl rfl)
theorem dX3_takesOut_3 : decode cX3_takesOut 3 = .ok (.bipush 10, 2) := dk_16 10 (dk_at dksX3_takesOut_0 3 rfl rfl)
theorem dX3_takesOut_5 : decode cX3_takesOut 5 = .ok (.if_icmp .ge 31, 3) := dk_162 0 31 (dk_at dksX3_takesOut_0 5 rfl rfl)
theorem dX3_takesOut_8 : decode cX3_takesOut 8 = .ok (.aload_n 0, 1) := dk_42 (dk_at dksX3_takesOut_0 8 rfl rfl)
theorem dX3_takesOut_9 : decode cX3_takesOut 9 = .ok (.getfield 13, 3) := dk_180 0 13 (dk_at dksX3_takesOut_0 9 rfl rfl)
theorem dX3_takesOut_12 : decode cX3_takesOut 12 = .ok (.iconst 5, 1) := dk_8 (dk_at dksX3_takesOut_0 12 rfl rfl)
theorem dX3_takesOut_13 : decode cX3_takesOut 13 = .ok (.iload_n 3, 1) := dk_29 (dk_at dksX3_takesOut_0 13 rfl rfl)
theorem dX3_takesOut_14 : decode cX3_takesOut 14 = .ok (.iadd, 1) := dk_96 (dk_at dksX3_takesOut_0 14 rfl rfl)
theorem dX3_takesOut_15 : decode cX3_takesOut 15 = .ok (.aload_n 0, 1) := dk_42 (dk_at dksX3_takesOut_0 15 rfl rfl)
theorem dX3_takesOut_16 : decode cX3_takesOut 16 = .ok (.aload_n 0, 1) := dk_42 (dk_at dksX3_takesOut_0 16 rfl rfl)
theorem dX3_takesOut_17 : decode cX3_takesOut 17 = .ok (.getfield 13, 3) := dk_180 0 13 (dk_at dksX3_takesOut_0 17 rfl rfl)
theorem dX3_takesOut_20 : decode cX3_takesOut 20 = .ok (.iconst 5, 1) := dk_8 (dk_at dksX3_takesOut_0 20 rfl rfl)
theorem dX3_takesOut_21 : decode cX3_takesOut 21 = .ok (.iload_n 3, 1) := dk_29 (dk_at dksX3_takesOut_0 21 rfl rfl)
theorem dX3_takesOut_22 : decode cX3_takesOut 22 = .ok (.iadd, 1) := dk_96 (dk_at dksX3_takesOut_0 22 rfl rfl)
theorem dX3_takesOut_23 : decode cX3_takesOut 23 = .ok (.iaload, 1) := dk_46 (dk_at dksX3_takesOut_0 23 rfl rfl)
theorem dX3_takesOut_24 : decode cX3_takesOut 24 = .ok (.iload_n 1, 1) := dk_27 (dk_at dksX3_takesOut_1 0 rfl rfl)
theorem dX3_takesOut_25 : decode cX3_takesOut 25 = .ok (.iload_n 2, 1) := dk_28 (dk_at dksX3_takesOut_1 1 rfl rfl)
theorem dX3_takesOut_26 : decode cX3_takesOut 26 = .ok (.invokevirtual 309, 3) := dk_182 1 53 (dk_at dksX3_takesOut_1 2 rfl rfl)
theorem dX3_takesOut_29 : decode cX3_takesOut 29 = .ok (.iastore, 1) := dk_79 (dk_at dksX3_takesOut_1 5 rfl rfl)
theorem dX3_takesOut_30 : decode cX3_takesOut 30 = .ok (.iinc 3 1, 3) := dk_132 3 1 (dk_at dksX3_takesOut_1 6 rfl rfl)
theorem dX3_takesOut_33 : decode cX3_takesOut 33 = .ok (.goto (-31), 3) := dk_167 255 225 (dk_at dksX3_takesOut_1 9 rfl rfl)
theorem dX3_takesOut_36 : decode cX3_takesOut 36 = .ok (.aload_n 0, 1) := dk_42 (dk_at dksX3_takesOut_1 12 rfl rfl)
theorem dX3_takesOut_37 : decode cX3_takesOut 37 = .ok (.getfield 13, 3) := dk_180 0 13 (dk_at dksX3_takesOut_1 13 rfl rfl)
theorem dX3_takesOut_40 : decode cX3_takesOut 40 = .ok (.iconst 2, 1) := dk_5 (dk_at dksX3_takesOut_1 16 rfl rfl)
theorem dX3_takesOut_41 : decode cX3_takesOut 41 = .ok (.aload_n 0, 1) := dk_42 (dk_at dksX3_takesOut_1 17 rfl rfl)
theorem dX3_takesOut_42 : decode cX3_takesOut 42 = .ok (.aload_n 0, 1) := dk_42 (dk_at dksX3_takesOut_1 18 rfl rfl)
theorem dX3_takesOut_43 : decode cX3_takesOut 43 = .ok (.getfield 13, 3) := dk_180 0 13 (dk_at dksX3_takesOut_1 19 rfl rfl)
theorem dX3_takesOut_46 : decode cX3_takesOut 46 = .ok (.iconst 2, 1) := dk_5 (dk_at dksX3_takesOut_1 22 rfl rfl)
theorem dX3_takesOut_47 : decode cX3_takesOut 47 = .ok (.iaload, 1) := dk_46 (dk_at dksX3_takesOut_1 23 rfl rfl)
theorem dX3_takesOut_48 : decode cX3_takesOut 48 = .ok (.iload_n 1, 1) := dk_27 (dk_at dksX3_takesOut_2 0 rfl rfl)
theorem dX3_takesOut_49 : decode cX3_takesOut 49 = .ok (.iload_n 2, 1) := dk_28 (dk_at dksX3_takesOut_2 1 rfl rfl)
theorem dX3_takesOut_50 : decode cX3_takesOut 50 = .ok (.invokevirtual 309, 3) := dk_182 1 53 (dk_at dksX3_takesOut_2 2 rfl rfl)
theorem dX3_takesOut_53 : decode cX3_takesOut 53 = .ok (.iastore, 1) := dk_79 (dk_at dksX3_takesOut_2 5 rfl rfl)
theorem dX3_takesOut_54 : decode cX3_takesOut 54 = .ok (.aload_n 0, 1) := dk_42 (dk_at dksX3_takesOut_2 6 rfl rfl)
theorem dX3_takesOut_55 : decode cX3_takesOut 55 = .ok (.iconst 3, 1) := dk_6 (dk_at dksX3_takesOut_2 7 rfl rfl)
theorem dX3_takesOut_56 : decode cX3_takesOut 56 = .ok (.bipush 15, 2) := dk_16 15 (dk_at dksX3_takesOut_2 8 rfl rfl)
theorem dX3_takesOut_58 : decode cX3_takesOut 58 = .ok (.iload_n 1, 1) := dk_27 (dk_at dksX3_takesOut_2 10 rfl rfl)
theorem dX3_takesOut_59 : decode cX3_takesOut 59 = .ok (.iload_n 2, 1) := dk_28 (dk_at dksX3_takesOut_2 11 rfl rfl)
theorem dX3_takesOut_60 : decode cX3_takesOut 60 = .ok (.invokevirtual 313, 3) := dk_182 1 57 (dk_at dksX3_takesOut_2 12 rfl rfl)
theorem dX3_takesOut_63 : decode cX3_takesOut 63 = .ok (.aload_n 0, 1) := dk_42 (dk_at dksX3_takesOut_2 15 rfl rfl)
theorem dX3_takesOut_64 : decode cX3_takesOut 64 = .ok (.iconst 4, 1) := dk_7 (dk_at dksX3_takesOut_2 16 rfl rfl)
theorem dX3_takesOut_65 : decode cX3_takesOut 65 = .ok (.bipush 25, 2) := dk_16 25 (dk_at dksX3_takesOut_2 17 rfl rfl)
theorem dX3_takesOut_67 : decode cX3_takesOut 67 = .ok (.iload_n 1, 1) := dk_27 (dk_at dksX3_takesOut_2 19 rfl rfl)
theorem dX3_takesOut_68 : decode cX3_takesOut 68 = .ok (.iload_n 2, 1) := dk_28 (dk_at dksX3_takesOut_2 20 rfl rfl)
theorem dX3_takesOut_69 : decode cX3_takesOut 69 = .ok (.invokevirtual 313, 3) := dk_182 1 57 (dk_at dksX3_takesOut_2 21 rfl rfl)
theorem dX3_takesOut_72 : decode cX3_takesOut 72 = .ok (.iload_n 2, 1) := dk_28 (dk_at dksX3_takesOut_3 0 rfl rfl)
theorem dX3_takesOut_73 : decode cX3_takesOut 73 = .ok (.iload_n 1, 1) := dk_27 (dk_at dksX3_takesOut_3 1 rfl rfl)
theorem dX3_takesOut_74 : decode cX3_takesOut 74 = .ok (.isub, 1) := dk_100 (dk_at dksX3_takesOut_3 2 rfl rfl)
theorem dX3_takesOut_75 : decode cX3_takesOut 75 = .ok (.iconst 1, 1) := dk_4 (dk_at dksX3_takesOut_3 3 rfl rfl)
theorem dX3_takesOut_76 : decode cX3_takesOut 76 = .ok (.iadd, 1) := dk_96 (dk_at dksX3_takesOut_3 4 rfl rfl)
theorem dX3_takesOut_77 : decode cX3_takesOut 77 = .ok (.istore_n 3, 1) := dk_62 (dk_at dksX3_takesOut_3 5 rfl rfl)
theorem dX3_takesOut_78 : decode cX3_takesOut 78 = .ok (.iload_n 2, 1) := dk_28 (dk_at dksX3_takesOut_3 6 rfl rfl)
theorem dX3_takesOut_79 : decode cX3_takesOut 79 = .ok (.iconst 1, 1) := dk_4 (dk_at dksX3_takesOut_3 7 rfl rfl)
theorem dX3_takesOut_80 : decode cX3_takesOut 80 = .ok (.iadd, 1) := dk_96 (dk_at dksX3_takesOut_3 8 rfl rfl)
theorem dX3_takesOut_81 : decode cX3_takesOut 81 = .ok (.invokestatic 125, 3) := dk_184 0 125 (dk_at dksX3_takesOut_3 9 rfl rfl)
theorem dX3_takesOut_84 : decode cX3_takesOut 84 = .ok (.istore 4, 2) := dk_54 4 (dk_at dksX3_takesOut_3 12 rfl rfl)
theorem dX3_takesOut_86 : decode cX3_takesOut 86 = .ok (.iload 4, 2) := dk_21 4 (dk_at dksX3_takesOut_3 14 rfl rfl)
theorem dX3_takesOut_88 : decode cX3_takesOut 88 = .ok (.aload_n 0, 1) := dk_42 (dk_at dksX3_takesOut_3 16 rfl rfl)
theorem dX3_takesOut_89 : decode cX3_takesOut 89 = .ok (.getfield 13, 3) := dk_180 0 13 (dk_at dksX3_takesOut_3 17 rfl rfl)
theorem dX3_takesOut_92 : decode cX3_takesOut 92 = .ok (.iconst 0, 1) := dk_3 (dk_at dksX3_takesOut_3 20 rfl rfl)
theorem dX3_takesOut_93 : decode cX3_takesOut 93 = .ok (.iaload, 1) := dk_46 (dk_at dksX3_takesOut_3 21 rfl rfl)
theorem dX3_takesOut_94 : decode cX3_takesOut 94 = .ok (.iconst 1, 1) := dk_4 (dk_at dksX3_takesOut_3 22 rfl rfl)
theorem dX3_takesOut_95 : decode cX3_takesOut 95 = .ok (.iadd, 1) := dk_96 (dk_at dksX3_takesOut_3 23 rfl rfl)
theorem dX3_takesOut_96 : decode cX3_takesOut 96 = .ok (.invokestatic 125, 3) := dk_184 0 125 (dk_at dksX3_takesOut_4 0 rfl rfl)
theorem dX3_takesOut_99 : decode cX3_takesOut 99 = .ok (.if_icmp .ge 28, 3) := dk_162 0 28 (dk_at dksX3_takesOut_4 3 rfl rfl)
theorem dX3_takesOut_102 : decode cX3_takesOut 102 = .ok (.aload_n 0, 1) := dk_42 (dk_at dksX3_takesOut_4 6 rfl rfl)
theorem dX3_takesOut_103 : decode cX3_takesOut 103 = .ok (.getfield 13, 3) := dk_180 0 13 (dk_at dksX3_takesOut_4 7 rfl rfl)
theorem dX3_takesOut_106 : decode cX3_takesOut 106 = .ok (.iload 4, 2) := dk_21 4 (dk_at dksX3_takesOut_4 10 rfl rfl)
theorem dX3_takesOut_108 : decode cX3_takesOut 108 = .ok (.bipush 27, 2) := dk_16 27 (dk_at dksX3_takesOut_4 12 rfl rfl)
theorem dX3_takesOut_110 : decode cX3_takesOut 110 = .ok (.iload_n 3, 1) := dk_29 (dk_at dksX3_takesOut_4 14 rfl rfl)
theorem dX3_takesOut_111 : decode cX3_takesOut 111 = .ok (.imul, 1) := dk_104 (dk_at dksX3_takesOut_4 15 rfl rfl)
theorem dX3_takesOut_112 : decode cX3_takesOut 112 = .ok (.isub, 1) := dk_100 (dk_at dksX3_takesOut_4 16 rfl rfl)
theorem dX3_takesOut_113 : decode cX3_takesOut 113 = .ok (.aload_n 0, 1) := dk_42 (dk_at dksX3_takesOut_4 17 rfl rfl)
theorem dX3_takesOut_114 : decode cX3_takesOut 114 = .ok (.getfield 13, 3) := dk_180 0 13 (dk_at dksX3_takesOut_4 18 rfl rfl)
theorem dX3_takesOut_117 : decode cX3_takesOut 117 = .ok (.iload 4, 2) := dk_21 4 (dk_at dksX3_takesOut_4 21 rfl rfl)
theorem dX3_takesOut_119 : decode cX3_takesOut 119 = .ok (.iaload, 1) := dk_46 (dk_at dksX3_takesOut_4 23 rfl rfl)
theorem dX3_takesOut_120 : decode cX3_takesOut 120 = .ok (.iastore, 1) := dk_79 (dk_at dksX3_takesOut_5 0 rfl rfl)
theorem dX3_takesOut_121 : decode cX3_takesOut 121 = .ok (.iinc 4 1, 3) := dk_132 4 1 (dk_at dksX3_takesOut_5 1 rfl rfl)
theorem dX3_takesOut_124 : decode cX3_takesOut 124 = .ok (.goto (-38), 3) := dk_167 255 218 (dk_at dksX3_takesOut_5 4 rfl rfl)
theorem dX3_takesOut_127 : decode cX3_takesOut 127 = .ok (.aload_n 0, 1) := dk_42 (dk_at dksX3_takesOut_5 7 rfl rfl)
theorem dX3_takesOut_128 : decode cX3_takesOut 128 = .ok (.getfield 13, 3) := dk_180 0 13 (dk_at dksX3_takesOut_5 8 rfl rfl)
theorem dX3_takesOut_131 : decode cX3_takesOut 131 = .ok (.iconst 0, 1) := dk_3 (dk_at dksX3_takesOut_5 11 rfl rfl)
theorem dX3_takesOut_132 : decode cX3_takesOut 132 = .ok (.dup2, 1) := dk_92 (dk_at dksX3_takesOut_5 12 rfl rfl)
theorem dX3_takesOut_133 : decode cX3_takesOut 133 = .ok (.iaload, 1) := dk_46 (dk_at dksX3_takesOut_5 13 rfl rfl)
theorem dX3_takesOut_134 : decode cX3_takesOut 134 = .ok (.iload_n 3, 1) := dk_29 (dk_at dksX3_takesOut_5 14 rfl rfl)
theorem dX3_takesOut_135 : decode cX3_takesOut 135 = .ok (.isub, 1) := dk_100 (dk_at dksX3_takesOut_5 15 rfl rfl)
theorem dX3_takesOut_136 : decode cX3_takesOut 136 = .ok (.iastore, 1) := dk_79 (dk_at dksX3_takesOut_5 16 rfl rfl)
theorem dX3_takesOut_137 : decode cX3_takesOut 137 = .ok (.return_, 1) := dk_177 (dk_at dksX3_takesOut_5 17 rfl rfl)
abbrev cX3_goesFrom : ByteArray := prog_21_method_109_code
def yX3_goesFrom : MethodName := ⟨RX3, "goesFrom", "(III)I"⟩
def dkwX3_goesFrom_2 : List UInt8 := [42, 28, 4, 100, 3, 182, 0, 129, 167, 0, 4, 2, 172]
abbrev dktX3_goesFrom_2 : List UInt8 := dkwX3_goesFrom_2 ++ []
def dkwX3_goesFrom_1 : List UInt8 := [180, 0, 13, 3, 46, 162, 0, 14, 42, 29, 4, 96, 3, 182, 0, 129, 167, 0, 20, 28, 4, 164, 0, 14]
abbrev dktX3_goesFrom_1 : List UInt8 := dkwX3_goesFrom_1 ++ dktX3_goesFrom_2
def dkwX3_goesFrom_0 : List UInt8 := [27, 2, 159, 0, 16, 42, 27, 182, 0, 192, 28, 29, 184, 0, 95, 154, 0, 5, 27, 172, 29, 42]
abbrev dktX3_goesFrom_0 : List UInt8 := dkwX3_goesFrom_0 ++ dktX3_goesFrom_1
theorem dksX3_goesFrom_0 : cX3_goesFrom.data.toList.drop 0 = dktX3_goesFrom_0 := by decide +kernel
theorem dksX3_goesFrom_1 : cX3_goesFrom.data.toList.drop 22 = dktX3_goesFrom_1 := dk_seg dksX3_goesFrom_0 22 rfl rfl
theorem dksX3_goesFrom_2 : cX3_goesFrom.data.toList.drop 46 = dktX3_goesFrom_2 := dk_seg dksX3_goesFrom_1 24 rfl rfl
theorem dX3_goesFrom_0 : decode cX3_goesFrom 0 = .ok (.iload_n 1, 1) := dk_27 (dk_at dksX3_goesFrom_0 0 rfl rfl)
theorem dX3_goesFrom_1 : decode cX3_goesFrom 1 = .ok (.iconst (-1), 1) := dk_2 (dk_at dksX3_goesFrom_0 1 rfl rfl)
theorem dX3_goesFrom_2 : decode cX3_goesFrom 2 = .ok (.if_icmp .eq 16, 3) := dk_159 0 16 (dk_at dksX3_goesFrom_0 2 rfl rfl)
theorem dX3_goesFrom_5 : decode cX3_goesFrom 5 = .ok (.aload_n 0, 1) := dk_42 (dk_at dksX3_goesFrom_0 5 rfl rfl)
theorem dX3_goesFrom_6 : decode cX3_goesFrom 6 = .ok (.iload_n 1, 1) := dk_27 (dk_at dksX3_goesFrom_0 6 rfl rfl)
theorem dX3_goesFrom_7 : decode cX3_goesFrom 7 = .ok (.invokevirtual 192, 3) := dk_182 0 192 (dk_at dksX3_goesFrom_0 7 rfl rfl)
theorem dX3_goesFrom_10 : decode cX3_goesFrom 10 = .ok (.iload_n 2, 1) := dk_28 (dk_at dksX3_goesFrom_0 10 rfl rfl)
theorem dX3_goesFrom_11 : decode cX3_goesFrom 11 = .ok (.iload_n 3, 1) := dk_29 (dk_at dksX3_goesFrom_0 11 rfl rfl)
theorem dX3_goesFrom_12 : decode cX3_goesFrom 12 = .ok (.invokestatic 95, 3) := dk_184 0 95 (dk_at dksX3_goesFrom_0 12 rfl rfl)
theorem dX3_goesFrom_15 : decode cX3_goesFrom 15 = .ok (.ifCond .ne 5, 3) := dk_154 0 5 (dk_at dksX3_goesFrom_0 15 rfl rfl)
theorem dX3_goesFrom_18 : decode cX3_goesFrom 18 = .ok (.iload_n 1, 1) := dk_27 (dk_at dksX3_goesFrom_0 18 rfl rfl)
theorem dX3_goesFrom_19 : decode cX3_goesFrom 19 = .ok (.ireturn, 1) := dk_172 (dk_at dksX3_goesFrom_0 19 rfl rfl)
theorem dX3_goesFrom_20 : decode cX3_goesFrom 20 = .ok (.iload_n 3, 1) := dk_29 (dk_at dksX3_goesFrom_0 20 rfl rfl)
theorem dX3_goesFrom_21 : decode cX3_goesFrom 21 = .ok (.aload_n 0, 1) := dk_42 (dk_at dksX3_goesFrom_0 21 rfl rfl)
theorem dX3_goesFrom_22 : decode cX3_goesFrom 22 = .ok (.getfield 13, 3) := dk_180 0 13 (dk_at dksX3_goesFrom_1 0 rfl rfl)
theorem dX3_goesFrom_25 : decode cX3_goesFrom 25 = .ok (.iconst 0, 1) := dk_3 (dk_at dksX3_goesFrom_1 3 rfl rfl)
theorem dX3_goesFrom_26 : decode cX3_goesFrom 26 = .ok (.iaload, 1) := dk_46 (dk_at dksX3_goesFrom_1 4 rfl rfl)
theorem dX3_goesFrom_27 : decode cX3_goesFrom 27 = .ok (.if_icmp .ge 14, 3) := dk_162 0 14 (dk_at dksX3_goesFrom_1 5 rfl rfl)
theorem dX3_goesFrom_30 : decode cX3_goesFrom 30 = .ok (.aload_n 0, 1) := dk_42 (dk_at dksX3_goesFrom_1 8 rfl rfl)
theorem dX3_goesFrom_31 : decode cX3_goesFrom 31 = .ok (.iload_n 3, 1) := dk_29 (dk_at dksX3_goesFrom_1 9 rfl rfl)
theorem dX3_goesFrom_32 : decode cX3_goesFrom 32 = .ok (.iconst 1, 1) := dk_4 (dk_at dksX3_goesFrom_1 10 rfl rfl)
theorem dX3_goesFrom_33 : decode cX3_goesFrom 33 = .ok (.iadd, 1) := dk_96 (dk_at dksX3_goesFrom_1 11 rfl rfl)
theorem dX3_goesFrom_34 : decode cX3_goesFrom 34 = .ok (.iconst 0, 1) := dk_3 (dk_at dksX3_goesFrom_1 12 rfl rfl)
theorem dX3_goesFrom_35 : decode cX3_goesFrom 35 = .ok (.invokevirtual 129, 3) := dk_182 0 129 (dk_at dksX3_goesFrom_1 13 rfl rfl)
theorem dX3_goesFrom_38 : decode cX3_goesFrom 38 = .ok (.goto 20, 3) := dk_167 0 20 (dk_at dksX3_goesFrom_1 16 rfl rfl)
theorem dX3_goesFrom_41 : decode cX3_goesFrom 41 = .ok (.iload_n 2, 1) := dk_28 (dk_at dksX3_goesFrom_1 19 rfl rfl)
theorem dX3_goesFrom_42 : decode cX3_goesFrom 42 = .ok (.iconst 1, 1) := dk_4 (dk_at dksX3_goesFrom_1 20 rfl rfl)
theorem dX3_goesFrom_43 : decode cX3_goesFrom 43 = .ok (.if_icmp .le 14, 3) := dk_164 0 14 (dk_at dksX3_goesFrom_1 21 rfl rfl)
theorem dX3_goesFrom_46 : decode cX3_goesFrom 46 = .ok (.aload_n 0, 1) := dk_42 (dk_at dksX3_goesFrom_2 0 rfl rfl)
theorem dX3_goesFrom_47 : decode cX3_goesFrom 47 = .ok (.iload_n 2, 1) := dk_28 (dk_at dksX3_goesFrom_2 1 rfl rfl)
theorem dX3_goesFrom_48 : decode cX3_goesFrom 48 = .ok (.iconst 1, 1) := dk_4 (dk_at dksX3_goesFrom_2 2 rfl rfl)
theorem dX3_goesFrom_49 : decode cX3_goesFrom 49 = .ok (.isub, 1) := dk_100 (dk_at dksX3_goesFrom_2 3 rfl rfl)
theorem dX3_goesFrom_50 : decode cX3_goesFrom 50 = .ok (.iconst 0, 1) := dk_3 (dk_at dksX3_goesFrom_2 4 rfl rfl)
theorem dX3_goesFrom_51 : decode cX3_goesFrom 51 = .ok (.invokevirtual 129, 3) := dk_182 0 129 (dk_at dksX3_goesFrom_2 5 rfl rfl)
theorem dX3_goesFrom_54 : decode cX3_goesFrom 54 = .ok (.goto 4, 3) := dk_167 0 4 (dk_at dksX3_goesFrom_2 8 rfl rfl)
theorem dX3_goesFrom_57 : decode cX3_goesFrom 57 = .ok (.iconst (-1), 1) := dk_2 (dk_at dksX3_goesFrom_2 11 rfl rfl)
theorem dX3_goesFrom_58 : decode cX3_goesFrom 58 = .ok (.ireturn, 1) := dk_172 (dk_at dksX3_goesFrom_2 12 rfl rfl)
abbrev cX3_takesOff : ByteArray := prog_21_method_110_code
def yX3_takesOff : MethodName := ⟨RX3, "takesOff", "(IIII)V"⟩
def dkwX3_takesOff_3 : List UInt8 := [180, 0, 13, 27, 21, 5, 79, 177]
abbrev dktX3_takesOff_3 : List UInt8 := dkwX3_takesOff_3 ++ []
def dkwX3_takesOff_2 : List UInt8 := [21, 5, 96, 42, 180, 0, 13, 28, 21, 6, 96, 46, 79, 132, 5, 1, 132, 6, 1, 167, 255, 196, 42]
abbrev dktX3_takesOff_2 : List UInt8 := dkwX3_takesOff_2 ++ dktX3_takesOff_3
def dkwX3_takesOff_1 : List UInt8 := [21, 6, 96, 46, 182, 0, 192, 29, 21, 4, 184, 0, 95, 153, 0, 6, 167, 0, 24, 42, 180, 0, 13, 28]
abbrev dktX3_takesOff_1 : List UInt8 := dkwX3_takesOff_1 ++ dktX3_takesOff_2
def dkwX3_takesOff_0 : List UInt8 := [3, 54, 5, 3, 54, 6, 21, 6, 42, 180, 0, 13, 27, 46, 162, 0, 55, 42, 42, 180, 0, 13, 28]
abbrev dktX3_takesOff_0 : List UInt8 := dkwX3_takesOff_0 ++ dktX3_takesOff_1
theorem dksX3_takesOff_0 : cX3_takesOff.data.toList.drop 0 = dktX3_takesOff_0 := by decide +kernel
theorem dksX3_takesOff_1 : cX3_takesOff.data.toList.drop 23 = dktX3_takesOff_1 := dk_seg dksX3_takesOff_0 23 rfl rfl
theorem dksX3_takesOff_2 : cX3_takesOff.data.toList.drop 47 = dktX3_takesOff_2 := dk_seg dksX3_takesOff_1 24 rfl rfl
theorem dksX3_takesOff_3 : cX3_takesOff.data.toList.drop 70 = dktX3_takesOff_3 := dk_seg dksX3_takesOff_2 23 rfl rfl
theorem dX3_takesOff_0 : decode cX3_takesOff 0 = .ok (.iconst 0, 1) := dk_3 (dk_at dksX3_takesOff_0 0 rfl rfl)
theorem dX3_takesOff_1 : decode cX3_takesOff 1 = .ok (.istore 5, 2) := dk_54 5 (dk_at dksX3_takesOff_0 1 rfl rfl)
theorem dX3_takesOff_3 : decode cX3_takesOff 3 = .ok (.iconst 0, 1) := dk_3 (dk_at dksX3_takesOff_0 3 rfl rfl)
theorem dX3_takesOff_4 : decode cX3_takesOff 4 = .ok (.istore 6, 2) := dk_54 6 (dk_at dksX3_takesOff_0 4 rfl rfl)
theorem dX3_takesOff_6 : decode cX3_takesOff 6 = .ok (.iload 6, 2) := dk_21 6 (dk_at dksX3_takesOff_0 6 rfl rfl)
theorem dX3_takesOff_8 : decode cX3_takesOff 8 = .ok (.aload_n 0, 1) := dk_42 (dk_at dksX3_takesOff_0 8 rfl rfl)
theorem dX3_takesOff_9 : decode cX3_takesOff 9 = .ok (.getfield 13, 3) := dk_180 0 13 (dk_at dksX3_takesOff_0 9 rfl rfl)
theorem dX3_takesOff_12 : decode cX3_takesOff 12 = .ok (.iload_n 1, 1) := dk_27 (dk_at dksX3_takesOff_0 12 rfl rfl)
theorem dX3_takesOff_13 : decode cX3_takesOff 13 = .ok (.iaload, 1) := dk_46 (dk_at dksX3_takesOff_0 13 rfl rfl)
theorem dX3_takesOff_14 : decode cX3_takesOff 14 = .ok (.if_icmp .ge 55, 3) := dk_162 0 55 (dk_at dksX3_takesOff_0 14 rfl rfl)
theorem dX3_takesOff_17 : decode cX3_takesOff 17 = .ok (.aload_n 0, 1) := dk_42 (dk_at dksX3_takesOff_0 17 rfl rfl)
theorem dX3_takesOff_18 : decode cX3_takesOff 18 = .ok (.aload_n 0, 1) := dk_42 (dk_at dksX3_takesOff_0 18 rfl rfl)
theorem dX3_takesOff_19 : decode cX3_takesOff 19 = .ok (.getfield 13, 3) := dk_180 0 13 (dk_at dksX3_takesOff_0 19 rfl rfl)
theorem dX3_takesOff_22 : decode cX3_takesOff 22 = .ok (.iload_n 2, 1) := dk_28 (dk_at dksX3_takesOff_0 22 rfl rfl)
theorem dX3_takesOff_23 : decode cX3_takesOff 23 = .ok (.iload 6, 2) := dk_21 6 (dk_at dksX3_takesOff_1 0 rfl rfl)
theorem dX3_takesOff_25 : decode cX3_takesOff 25 = .ok (.iadd, 1) := dk_96 (dk_at dksX3_takesOff_1 2 rfl rfl)
theorem dX3_takesOff_26 : decode cX3_takesOff 26 = .ok (.iaload, 1) := dk_46 (dk_at dksX3_takesOff_1 3 rfl rfl)
theorem dX3_takesOff_27 : decode cX3_takesOff 27 = .ok (.invokevirtual 192, 3) := dk_182 0 192 (dk_at dksX3_takesOff_1 4 rfl rfl)
theorem dX3_takesOff_30 : decode cX3_takesOff 30 = .ok (.iload_n 3, 1) := dk_29 (dk_at dksX3_takesOff_1 7 rfl rfl)
theorem dX3_takesOff_31 : decode cX3_takesOff 31 = .ok (.iload 4, 2) := dk_21 4 (dk_at dksX3_takesOff_1 8 rfl rfl)
theorem dX3_takesOff_33 : decode cX3_takesOff 33 = .ok (.invokestatic 95, 3) := dk_184 0 95 (dk_at dksX3_takesOff_1 10 rfl rfl)
theorem dX3_takesOff_36 : decode cX3_takesOff 36 = .ok (.ifCond .eq 6, 3) := dk_153 0 6 (dk_at dksX3_takesOff_1 13 rfl rfl)
theorem dX3_takesOff_39 : decode cX3_takesOff 39 = .ok (.goto 24, 3) := dk_167 0 24 (dk_at dksX3_takesOff_1 16 rfl rfl)
theorem dX3_takesOff_42 : decode cX3_takesOff 42 = .ok (.aload_n 0, 1) := dk_42 (dk_at dksX3_takesOff_1 19 rfl rfl)
theorem dX3_takesOff_43 : decode cX3_takesOff 43 = .ok (.getfield 13, 3) := dk_180 0 13 (dk_at dksX3_takesOff_1 20 rfl rfl)
theorem dX3_takesOff_46 : decode cX3_takesOff 46 = .ok (.iload_n 2, 1) := dk_28 (dk_at dksX3_takesOff_1 23 rfl rfl)
theorem dX3_takesOff_47 : decode cX3_takesOff 47 = .ok (.iload 5, 2) := dk_21 5 (dk_at dksX3_takesOff_2 0 rfl rfl)
theorem dX3_takesOff_49 : decode cX3_takesOff 49 = .ok (.iadd, 1) := dk_96 (dk_at dksX3_takesOff_2 2 rfl rfl)
theorem dX3_takesOff_50 : decode cX3_takesOff 50 = .ok (.aload_n 0, 1) := dk_42 (dk_at dksX3_takesOff_2 3 rfl rfl)
theorem dX3_takesOff_51 : decode cX3_takesOff 51 = .ok (.getfield 13, 3) := dk_180 0 13 (dk_at dksX3_takesOff_2 4 rfl rfl)
theorem dX3_takesOff_54 : decode cX3_takesOff 54 = .ok (.iload_n 2, 1) := dk_28 (dk_at dksX3_takesOff_2 7 rfl rfl)
theorem dX3_takesOff_55 : decode cX3_takesOff 55 = .ok (.iload 6, 2) := dk_21 6 (dk_at dksX3_takesOff_2 8 rfl rfl)
theorem dX3_takesOff_57 : decode cX3_takesOff 57 = .ok (.iadd, 1) := dk_96 (dk_at dksX3_takesOff_2 10 rfl rfl)
theorem dX3_takesOff_58 : decode cX3_takesOff 58 = .ok (.iaload, 1) := dk_46 (dk_at dksX3_takesOff_2 11 rfl rfl)
theorem dX3_takesOff_59 : decode cX3_takesOff 59 = .ok (.iastore, 1) := dk_79 (dk_at dksX3_takesOff_2 12 rfl rfl)
theorem dX3_takesOff_60 : decode cX3_takesOff 60 = .ok (.iinc 5 1, 3) := dk_132 5 1 (dk_at dksX3_takesOff_2 13 rfl rfl)
theorem dX3_takesOff_63 : decode cX3_takesOff 63 = .ok (.iinc 6 1, 3) := dk_132 6 1 (dk_at dksX3_takesOff_2 16 rfl rfl)
theorem dX3_takesOff_66 : decode cX3_takesOff 66 = .ok (.goto (-60), 3) := dk_167 255 196 (dk_at dksX3_takesOff_2 19 rfl rfl)
theorem dX3_takesOff_69 : decode cX3_takesOff 69 = .ok (.aload_n 0, 1) := dk_42 (dk_at dksX3_takesOff_2 22 rfl rfl)
theorem dX3_takesOff_70 : decode cX3_takesOff 70 = .ok (.getfield 13, 3) := dk_180 0 13 (dk_at dksX3_takesOff_3 0 rfl rfl)
theorem dX3_takesOff_73 : decode cX3_takesOff 73 = .ok (.iload_n 1, 1) := dk_27 (dk_at dksX3_takesOff_3 3 rfl rfl)
theorem dX3_takesOff_74 : decode cX3_takesOff 74 = .ok (.iload 5, 2) := dk_21 5 (dk_at dksX3_takesOff_3 4 rfl rfl)
theorem dX3_takesOff_76 : decode cX3_takesOff 76 = .ok (.iastore, 1) := dk_79 (dk_at dksX3_takesOff_3 6 rfl rfl)
theorem dX3_takesOff_77 : decode cX3_takesOff 77 = .ok (.return_, 1) := dk_177 (dk_at dksX3_takesOff_3 7 rfl rfl)
abbrev cX3_join : ByteArray := prog_21_method_113_code
def yX3_join : MethodName := ⟨RX3, "join", "(I)I"⟩
def dkwX3_join_6 : List UInt8 := [96, 182, 1, 50, 42, 27, 182, 0, 139, 172]
abbrev dktX3_join_6 : List UInt8 := dkwX3_join_6 ++ []
def dkwX3_join_5 : List UInt8 := [167, 255, 221, 42, 180, 0, 13, 27, 184, 0, 125, 5, 96, 29, 21, 4, 96, 79, 42, 27, 4, 96, 27, 4]
abbrev dktX3_join_5 : List UInt8 := dkwX3_join_5 ++ dktX3_join_6
def dkwX3_join_4 : List UInt8 := [184, 0, 125, 6, 96, 29, 96, 21, 5, 96, 42, 27, 4, 96, 21, 5, 182, 0, 133, 79, 132, 5, 1]
abbrev dktX3_join_4 : List UInt8 := dkwX3_join_4 ++ dktX3_join_5
def dkwX3_join_3 : List UInt8 := [27, 4, 96, 182, 0, 139, 54, 4, 3, 54, 5, 21, 5, 21, 4, 162, 0, 34, 42, 180, 0, 13, 27]
abbrev dktX3_join_3 : List UInt8 := dkwX3_join_3 ++ dktX3_join_4
def dkwX3_join_2 : List UInt8 := [4, 167, 0, 4, 3, 182, 0, 170, 154, 0, 5, 3, 172, 42, 182, 1, 38, 42, 27, 182, 0, 139, 62, 42]
abbrev dktX3_join_2 : List UInt8 := dkwX3_join_2 ++ dktX3_join_3
def dkwX3_join_1 : List UInt8 := [42, 28, 28, 153, 0, 25, 42, 27, 182, 0, 139, 42, 27, 4, 96, 182, 0, 139, 96, 16, 24, 163, 0, 7]
abbrev dktX3_join_1 : List UInt8 := dkwX3_join_1 ++ dktX3_join_2
def dkwX3_join_0 : List UInt8 := [42, 27, 182, 0, 167, 153, 0, 17, 42, 27, 4, 96, 182, 0, 167, 153, 0, 7, 4, 167, 0, 4, 3, 61]
abbrev dktX3_join_0 : List UInt8 := dkwX3_join_0 ++ dktX3_join_1
theorem dksX3_join_0 : cX3_join.data.toList.drop 0 = dktX3_join_0 := by decide +kernel
theorem dksX3_join_1 : cX3_join.data.toList.drop 24 = dktX3_join_1 := dk_seg dksX3_join_0 24 rfl rfl
theorem dksX3_join_2 : cX3_join.data.toList.drop 48 = dktX3_join_2 := dk_seg dksX3_join_1 24 rfl rfl
theorem dksX3_join_3 : cX3_join.data.toList.drop 72 = dktX3_join_3 := dk_seg dksX3_join_2 24 rfl rfl
theorem dksX3_join_4 : cX3_join.data.toList.drop 95 = dktX3_join_4 := dk_seg dksX3_join_3 23 rfl rfl
theorem dksX3_join_5 : cX3_join.data.toList.drop 118 = dktX3_join_5 := dk_seg dksX3_join_4 23 rfl rfl
theorem dksX3_join_6 : cX3_join.data.toList.drop 142 = dktX3_join_6 := dk_seg dksX3_join_5 24 rfl rfl
theorem dX3_join_0 : decode cX3_join 0 = .ok (.aload_n 0, 1) := dk_42 (dk_at dksX3_join_0 0 rfl rfl)
theorem dX3_join_1 : decode cX3_join 1 = .ok (.iload_n 1, 1) := dk_27 (dk_at dksX3_join_0 1 rfl rfl)
theorem dX3_join_2 : decode cX3_join 2 = .ok (.invokevirtual 167, 3) := dk_182 0 167 (dk_at dksX3_join_0 2 rfl rfl)
theorem dX3_join_5 : decode cX3_join 5 = .ok (.ifCond .eq 17, 3) := dk_153 0 17 (dk_at dksX3_join_0 5 rfl rfl)
theorem dX3_join_8 : decode cX3_join 8 = .ok (.aload_n 0, 1) := dk_42 (dk_at dksX3_join_0 8 rfl rfl)
theorem dX3_join_9 : decode cX3_join 9 = .ok (.iload_n 1, 1) := dk_27 (dk_at dksX3_join_0 9 rfl rfl)
theorem dX3_join_10 : decode cX3_join 10 = .ok (.iconst 1, 1) := dk_4 (dk_at dksX3_join_0 10 rfl rfl)
theorem dX3_join_11 : decode cX3_join 11 = .ok (.iadd, 1) := dk_96 (dk_at dksX3_join_0 11 rfl rfl)
theorem dX3_join_12 : decode cX3_join 12 = .ok (.invokevirtual 167, 3) := dk_182 0 167 (dk_at dksX3_join_0 12 rfl rfl)
theorem dX3_join_15 : decode cX3_join 15 = .ok (.ifCond .eq 7, 3) := dk_153 0 7 (dk_at dksX3_join_0 15 rfl rfl)
theorem dX3_join_18 : decode cX3_join 18 = .ok (.iconst 1, 1) := dk_4 (dk_at dksX3_join_0 18 rfl rfl)
theorem dX3_join_19 : decode cX3_join 19 = .ok (.goto 4, 3) := dk_167 0 4 (dk_at dksX3_join_0 19 rfl rfl)
theorem dX3_join_22 : decode cX3_join 22 = .ok (.iconst 0, 1) := dk_3 (dk_at dksX3_join_0 22 rfl rfl)
theorem dX3_join_23 : decode cX3_join 23 = .ok (.istore_n 2, 1) := dk_61 (dk_at dksX3_join_0 23 rfl rfl)
theorem dX3_join_24 : decode cX3_join 24 = .ok (.aload_n 0, 1) := dk_42 (dk_at dksX3_join_1 0 rfl rfl)
theorem dX3_join_25 : decode cX3_join 25 = .ok (.iload_n 2, 1) := dk_28 (dk_at dksX3_join_1 1 rfl rfl)
theorem dX3_join_26 : decode cX3_join 26 = .ok (.iload_n 2, 1) := dk_28 (dk_at dksX3_join_1 2 rfl rfl)
theorem dX3_join_27 : decode cX3_join 27 = .ok (.ifCond .eq 25, 3) := dk_153 0 25 (dk_at dksX3_join_1 3 rfl rfl)
theorem dX3_join_30 : decode cX3_join 30 = .ok (.aload_n 0, 1) := dk_42 (dk_at dksX3_join_1 6 rfl rfl)
theorem dX3_join_31 : decode cX3_join 31 = .ok (.iload_n 1, 1) := dk_27 (dk_at dksX3_join_1 7 rfl rfl)
theorem dX3_join_32 : decode cX3_join 32 = .ok (.invokevirtual 139, 3) := dk_182 0 139 (dk_at dksX3_join_1 8 rfl rfl)
theorem dX3_join_35 : decode cX3_join 35 = .ok (.aload_n 0, 1) := dk_42 (dk_at dksX3_join_1 11 rfl rfl)
theorem dX3_join_36 : decode cX3_join 36 = .ok (.iload_n 1, 1) := dk_27 (dk_at dksX3_join_1 12 rfl rfl)
theorem dX3_join_37 : decode cX3_join 37 = .ok (.iconst 1, 1) := dk_4 (dk_at dksX3_join_1 13 rfl rfl)
theorem dX3_join_38 : decode cX3_join 38 = .ok (.iadd, 1) := dk_96 (dk_at dksX3_join_1 14 rfl rfl)
theorem dX3_join_39 : decode cX3_join 39 = .ok (.invokevirtual 139, 3) := dk_182 0 139 (dk_at dksX3_join_1 15 rfl rfl)
theorem dX3_join_42 : decode cX3_join 42 = .ok (.iadd, 1) := dk_96 (dk_at dksX3_join_1 18 rfl rfl)
theorem dX3_join_43 : decode cX3_join 43 = .ok (.bipush 24, 2) := dk_16 24 (dk_at dksX3_join_1 19 rfl rfl)
theorem dX3_join_45 : decode cX3_join 45 = .ok (.if_icmp .gt 7, 3) := dk_163 0 7 (dk_at dksX3_join_1 21 rfl rfl)
theorem dX3_join_48 : decode cX3_join 48 = .ok (.iconst 1, 1) := dk_4 (dk_at dksX3_join_2 0 rfl rfl)
theorem dX3_join_49 : decode cX3_join 49 = .ok (.goto 4, 3) := dk_167 0 4 (dk_at dksX3_join_2 1 rfl rfl)
theorem dX3_join_52 : decode cX3_join 52 = .ok (.iconst 0, 1) := dk_3 (dk_at dksX3_join_2 4 rfl rfl)
theorem dX3_join_53 : decode cX3_join 53 = .ok (.invokevirtual 170, 3) := dk_182 0 170 (dk_at dksX3_join_2 5 rfl rfl)
theorem dX3_join_56 : decode cX3_join 56 = .ok (.ifCond .ne 5, 3) := dk_154 0 5 (dk_at dksX3_join_2 8 rfl rfl)
theorem dX3_join_59 : decode cX3_join 59 = .ok (.iconst 0, 1) := dk_3 (dk_at dksX3_join_2 11 rfl rfl)
theorem dX3_join_60 : decode cX3_join 60 = .ok (.ireturn, 1) := dk_172 (dk_at dksX3_join_2 12 rfl rfl)
theorem dX3_join_61 : decode cX3_join 61 = .ok (.aload_n 0, 1) := dk_42 (dk_at dksX3_join_2 13 rfl rfl)
theorem dX3_join_62 : decode cX3_join 62 = .ok (.invokevirtual 294, 3) := dk_182 1 38 (dk_at dksX3_join_2 14 rfl rfl)
theorem dX3_join_65 : decode cX3_join 65 = .ok (.aload_n 0, 1) := dk_42 (dk_at dksX3_join_2 17 rfl rfl)
theorem dX3_join_66 : decode cX3_join 66 = .ok (.iload_n 1, 1) := dk_27 (dk_at dksX3_join_2 18 rfl rfl)
theorem dX3_join_67 : decode cX3_join 67 = .ok (.invokevirtual 139, 3) := dk_182 0 139 (dk_at dksX3_join_2 19 rfl rfl)
theorem dX3_join_70 : decode cX3_join 70 = .ok (.istore_n 3, 1) := dk_62 (dk_at dksX3_join_2 22 rfl rfl)
theorem dX3_join_71 : decode cX3_join 71 = .ok (.aload_n 0, 1) := dk_42 (dk_at dksX3_join_2 23 rfl rfl)
theorem dX3_join_72 : decode cX3_join 72 = .ok (.iload_n 1, 1) := dk_27 (dk_at dksX3_join_3 0 rfl rfl)
theorem dX3_join_73 : decode cX3_join 73 = .ok (.iconst 1, 1) := dk_4 (dk_at dksX3_join_3 1 rfl rfl)
theorem dX3_join_74 : decode cX3_join 74 = .ok (.iadd, 1) := dk_96 (dk_at dksX3_join_3 2 rfl rfl)
theorem dX3_join_75 : decode cX3_join 75 = .ok (.invokevirtual 139, 3) := dk_182 0 139 (dk_at dksX3_join_3 3 rfl rfl)
theorem dX3_join_78 : decode cX3_join 78 = .ok (.istore 4, 2) := dk_54 4 (dk_at dksX3_join_3 6 rfl rfl)
theorem dX3_join_80 : decode cX3_join 80 = .ok (.iconst 0, 1) := dk_3 (dk_at dksX3_join_3 8 rfl rfl)
theorem dX3_join_81 : decode cX3_join 81 = .ok (.istore 5, 2) := dk_54 5 (dk_at dksX3_join_3 9 rfl rfl)
theorem dX3_join_83 : decode cX3_join 83 = .ok (.iload 5, 2) := dk_21 5 (dk_at dksX3_join_3 11 rfl rfl)
theorem dX3_join_85 : decode cX3_join 85 = .ok (.iload 4, 2) := dk_21 4 (dk_at dksX3_join_3 13 rfl rfl)
theorem dX3_join_87 : decode cX3_join 87 = .ok (.if_icmp .ge 34, 3) := dk_162 0 34 (dk_at dksX3_join_3 15 rfl rfl)
theorem dX3_join_90 : decode cX3_join 90 = .ok (.aload_n 0, 1) := dk_42 (dk_at dksX3_join_3 18 rfl rfl)
theorem dX3_join_91 : decode cX3_join 91 = .ok (.getfield 13, 3) := dk_180 0 13 (dk_at dksX3_join_3 19 rfl rfl)
theorem dX3_join_94 : decode cX3_join 94 = .ok (.iload_n 1, 1) := dk_27 (dk_at dksX3_join_3 22 rfl rfl)
theorem dX3_join_95 : decode cX3_join 95 = .ok (.invokestatic 125, 3) := dk_184 0 125 (dk_at dksX3_join_4 0 rfl rfl)
theorem dX3_join_98 : decode cX3_join 98 = .ok (.iconst 3, 1) := dk_6 (dk_at dksX3_join_4 3 rfl rfl)
theorem dX3_join_99 : decode cX3_join 99 = .ok (.iadd, 1) := dk_96 (dk_at dksX3_join_4 4 rfl rfl)
theorem dX3_join_100 : decode cX3_join 100 = .ok (.iload_n 3, 1) := dk_29 (dk_at dksX3_join_4 5 rfl rfl)
theorem dX3_join_101 : decode cX3_join 101 = .ok (.iadd, 1) := dk_96 (dk_at dksX3_join_4 6 rfl rfl)
theorem dX3_join_102 : decode cX3_join 102 = .ok (.iload 5, 2) := dk_21 5 (dk_at dksX3_join_4 7 rfl rfl)
theorem dX3_join_104 : decode cX3_join 104 = .ok (.iadd, 1) := dk_96 (dk_at dksX3_join_4 9 rfl rfl)
theorem dX3_join_105 : decode cX3_join 105 = .ok (.aload_n 0, 1) := dk_42 (dk_at dksX3_join_4 10 rfl rfl)
theorem dX3_join_106 : decode cX3_join 106 = .ok (.iload_n 1, 1) := dk_27 (dk_at dksX3_join_4 11 rfl rfl)
theorem dX3_join_107 : decode cX3_join 107 = .ok (.iconst 1, 1) := dk_4 (dk_at dksX3_join_4 12 rfl rfl)
theorem dX3_join_108 : decode cX3_join 108 = .ok (.iadd, 1) := dk_96 (dk_at dksX3_join_4 13 rfl rfl)
theorem dX3_join_109 : decode cX3_join 109 = .ok (.iload 5, 2) := dk_21 5 (dk_at dksX3_join_4 14 rfl rfl)
theorem dX3_join_111 : decode cX3_join 111 = .ok (.invokevirtual 133, 3) := dk_182 0 133 (dk_at dksX3_join_4 16 rfl rfl)
theorem dX3_join_114 : decode cX3_join 114 = .ok (.iastore, 1) := dk_79 (dk_at dksX3_join_4 19 rfl rfl)
theorem dX3_join_115 : decode cX3_join 115 = .ok (.iinc 5 1, 3) := dk_132 5 1 (dk_at dksX3_join_4 20 rfl rfl)
theorem dX3_join_118 : decode cX3_join 118 = .ok (.goto (-35), 3) := dk_167 255 221 (dk_at dksX3_join_5 0 rfl rfl)
theorem dX3_join_121 : decode cX3_join 121 = .ok (.aload_n 0, 1) := dk_42 (dk_at dksX3_join_5 3 rfl rfl)
theorem dX3_join_122 : decode cX3_join 122 = .ok (.getfield 13, 3) := dk_180 0 13 (dk_at dksX3_join_5 4 rfl rfl)
theorem dX3_join_125 : decode cX3_join 125 = .ok (.iload_n 1, 1) := dk_27 (dk_at dksX3_join_5 7 rfl rfl)
theorem dX3_join_126 : decode cX3_join 126 = .ok (.invokestatic 125, 3) := dk_184 0 125 (dk_at dksX3_join_5 8 rfl rfl)
theorem dX3_join_129 : decode cX3_join 129 = .ok (.iconst 2, 1) := dk_5 (dk_at dksX3_join_5 11 rfl rfl)
theorem dX3_join_130 : decode cX3_join 130 = .ok (.iadd, 1) := dk_96 (dk_at dksX3_join_5 12 rfl rfl)
theorem dX3_join_131 : decode cX3_join 131 = .ok (.iload_n 3, 1) := dk_29 (dk_at dksX3_join_5 13 rfl rfl)
theorem dX3_join_132 : decode cX3_join 132 = .ok (.iload 4, 2) := dk_21 4 (dk_at dksX3_join_5 14 rfl rfl)
theorem dX3_join_134 : decode cX3_join 134 = .ok (.iadd, 1) := dk_96 (dk_at dksX3_join_5 16 rfl rfl)
theorem dX3_join_135 : decode cX3_join 135 = .ok (.iastore, 1) := dk_79 (dk_at dksX3_join_5 17 rfl rfl)
theorem dX3_join_136 : decode cX3_join 136 = .ok (.aload_n 0, 1) := dk_42 (dk_at dksX3_join_5 18 rfl rfl)
theorem dX3_join_137 : decode cX3_join 137 = .ok (.iload_n 1, 1) := dk_27 (dk_at dksX3_join_5 19 rfl rfl)
theorem dX3_join_138 : decode cX3_join 138 = .ok (.iconst 1, 1) := dk_4 (dk_at dksX3_join_5 20 rfl rfl)
theorem dX3_join_139 : decode cX3_join 139 = .ok (.iadd, 1) := dk_96 (dk_at dksX3_join_5 21 rfl rfl)
theorem dX3_join_140 : decode cX3_join 140 = .ok (.iload_n 1, 1) := dk_27 (dk_at dksX3_join_5 22 rfl rfl)
theorem dX3_join_141 : decode cX3_join 141 = .ok (.iconst 1, 1) := dk_4 (dk_at dksX3_join_5 23 rfl rfl)
theorem dX3_join_142 : decode cX3_join 142 = .ok (.iadd, 1) := dk_96 (dk_at dksX3_join_6 0 rfl rfl)
theorem dX3_join_143 : decode cX3_join 143 = .ok (.invokevirtual 306, 3) := dk_182 1 50 (dk_at dksX3_join_6 1 rfl rfl)
theorem dX3_join_146 : decode cX3_join 146 = .ok (.aload_n 0, 1) := dk_42 (dk_at dksX3_join_6 4 rfl rfl)
theorem dX3_join_147 : decode cX3_join 147 = .ok (.iload_n 1, 1) := dk_27 (dk_at dksX3_join_6 5 rfl rfl)
theorem dX3_join_148 : decode cX3_join 148 = .ok (.invokevirtual 139, 3) := dk_182 0 139 (dk_at dksX3_join_6 6 rfl rfl)
theorem dX3_join_151 : decode cX3_join 151 = .ok (.ireturn, 1) := dk_172 (dk_at dksX3_join_6 9 rfl rfl)
abbrev cX3_part : ByteArray := prog_21_method_114_code
def yX3_part : MethodName := ⟨RX3, "part", "(II)I"⟩
def dkwX3_part_6 : List UInt8 := [54, 5, 42, 27, 4, 96, 182, 1, 44, 21, 5, 172]
abbrev dktX3_part_6 : List UInt8 := dkwX3_part_6 ++ []
def dkwX3_part_5 : List UInt8 := [100, 79, 42, 180, 0, 13, 27, 184, 0, 125, 5, 96, 28, 79, 42, 180, 0, 13, 21, 4, 3, 96, 46]
abbrev dktX3_part_5 : List UInt8 := dkwX3_part_5 ++ dktX3_part_6
def dkwX3_part_4 : List UInt8 := [182, 0, 133, 79, 132, 5, 1, 167, 255, 222, 42, 180, 0, 13, 21, 4, 5, 96, 42, 27, 182, 0, 139, 28]
abbrev dktX3_part_4 : List UInt8 := dkwX3_part_4 ++ dktX3_part_5
def dkwX3_part_3 : List UInt8 := [27, 182, 0, 139, 162, 0, 30, 42, 180, 0, 13, 21, 4, 6, 96, 21, 5, 96, 28, 100, 42, 27, 21, 5]
abbrev dktX3_part_3 : List UInt8 := dkwX3_part_3 ++ dktX3_part_4
def dkwX3_part_2 : List UInt8 := [182, 0, 170, 154, 0, 5, 3, 172, 42, 182, 1, 38, 42, 182, 0, 99, 54, 4, 28, 54, 5, 21, 5, 42]
abbrev dktX3_part_2 : List UInt8 := dkwX3_part_2 ++ dktX3_part_3
def dkwX3_part_1 : List UInt8 := [167, 0, 4, 3, 62, 42, 29, 42, 180, 0, 13, 3, 46, 16, 80, 162, 0, 7, 4, 167, 0, 4, 3]
abbrev dktX3_part_1 : List UInt8 := dkwX3_part_1 ++ dktX3_part_2
def dkwX3_part_0 : List UInt8 := [42, 27, 182, 0, 167, 153, 0, 20, 28, 3, 42, 27, 182, 0, 139, 184, 0, 95, 153, 0, 7, 4]
abbrev dktX3_part_0 : List UInt8 := dkwX3_part_0 ++ dktX3_part_1
theorem dksX3_part_0 : cX3_part.data.toList.drop 0 = dktX3_part_0 := by decide +kernel
theorem dksX3_part_1 : cX3_part.data.toList.drop 22 = dktX3_part_1 := dk_seg dksX3_part_0 22 rfl rfl
theorem dksX3_part_2 : cX3_part.data.toList.drop 45 = dktX3_part_2 := dk_seg dksX3_part_1 23 rfl rfl
theorem dksX3_part_3 : cX3_part.data.toList.drop 69 = dktX3_part_3 := dk_seg dksX3_part_2 24 rfl rfl
theorem dksX3_part_4 : cX3_part.data.toList.drop 93 = dktX3_part_4 := dk_seg dksX3_part_3 24 rfl rfl
theorem dksX3_part_5 : cX3_part.data.toList.drop 117 = dktX3_part_5 := dk_seg dksX3_part_4 24 rfl rfl
theorem dksX3_part_6 : cX3_part.data.toList.drop 140 = dktX3_part_6 := dk_seg dksX3_part_5 23 rfl rfl
theorem dX3_part_0 : decode cX3_part 0 = .ok (.aload_n 0, 1) := dk_42 (dk_at dksX3_part_0 0 rfl rfl)
theorem dX3_part_1 : decode cX3_part 1 = .ok (.iload_n 1, 1) := dk_27 (dk_at dksX3_part_0 1 rfl rfl)
theorem dX3_part_2 : decode cX3_part 2 = .ok (.invokevirtual 167, 3) := dk_182 0 167 (dk_at dksX3_part_0 2 rfl rfl)
theorem dX3_part_5 : decode cX3_part 5 = .ok (.ifCond .eq 20, 3) := dk_153 0 20 (dk_at dksX3_part_0 5 rfl rfl)
theorem dX3_part_8 : decode cX3_part 8 = .ok (.iload_n 2, 1) := dk_28 (dk_at dksX3_part_0 8 rfl rfl)
theorem dX3_part_9 : decode cX3_part 9 = .ok (.iconst 0, 1) := dk_3 (dk_at dksX3_part_0 9 rfl rfl)
theorem dX3_part_10 : decode cX3_part 10 = .ok (.aload_n 0, 1) := dk_42 (dk_at dksX3_part_0 10 rfl rfl)
theorem dX3_part_11 : decode cX3_part 11 = .ok (.iload_n 1, 1) := dk_27 (dk_at dksX3_part_0 11 rfl rfl)
theorem dX3_part_12 : decode cX3_part 12 = .ok (.invokevirtual 139, 3) := dk_182 0 139 (dk_at dksX3_part_0 12 rfl rfl)
theorem dX3_part_15 : decode cX3_part 15 = .ok (.invokestatic 95, 3) := dk_184 0 95 (dk_at dksX3_part_0 15 rfl rfl)
theorem dX3_part_18 : decode cX3_part 18 = .ok (.ifCond .eq 7, 3) := dk_153 0 7 (dk_at dksX3_part_0 18 rfl rfl)
theorem dX3_part_21 : decode cX3_part 21 = .ok (.iconst 1, 1) := dk_4 (dk_at dksX3_part_0 21 rfl rfl)
theorem dX3_part_22 : decode cX3_part 22 = .ok (.goto 4, 3) := dk_167 0 4 (dk_at dksX3_part_1 0 rfl rfl)
theorem dX3_part_25 : decode cX3_part 25 = .ok (.iconst 0, 1) := dk_3 (dk_at dksX3_part_1 3 rfl rfl)
theorem dX3_part_26 : decode cX3_part 26 = .ok (.istore_n 3, 1) := dk_62 (dk_at dksX3_part_1 4 rfl rfl)
theorem dX3_part_27 : decode cX3_part 27 = .ok (.aload_n 0, 1) := dk_42 (dk_at dksX3_part_1 5 rfl rfl)
theorem dX3_part_28 : decode cX3_part 28 = .ok (.iload_n 3, 1) := dk_29 (dk_at dksX3_part_1 6 rfl rfl)
theorem dX3_part_29 : decode cX3_part 29 = .ok (.aload_n 0, 1) := dk_42 (dk_at dksX3_part_1 7 rfl rfl)
theorem dX3_part_30 : decode cX3_part 30 = .ok (.getfield 13, 3) := dk_180 0 13 (dk_at dksX3_part_1 8 rfl rfl)
theorem dX3_part_33 : decode cX3_part 33 = .ok (.iconst 0, 1) := dk_3 (dk_at dksX3_part_1 11 rfl rfl)
theorem dX3_part_34 : decode cX3_part 34 = .ok (.iaload, 1) := dk_46 (dk_at dksX3_part_1 12 rfl rfl)
theorem dX3_part_35 : decode cX3_part 35 = .ok (.bipush 80, 2) := dk_16 80 (dk_at dksX3_part_1 13 rfl rfl)
theorem dX3_part_37 : decode cX3_part 37 = .ok (.if_icmp .ge 7, 3) := dk_162 0 7 (dk_at dksX3_part_1 15 rfl rfl)
theorem dX3_part_40 : decode cX3_part 40 = .ok (.iconst 1, 1) := dk_4 (dk_at dksX3_part_1 18 rfl rfl)
theorem dX3_part_41 : decode cX3_part 41 = .ok (.goto 4, 3) := dk_167 0 4 (dk_at dksX3_part_1 19 rfl rfl)
theorem dX3_part_44 : decode cX3_part 44 = .ok (.iconst 0, 1) := dk_3 (dk_at dksX3_part_1 22 rfl rfl)
theorem dX3_part_45 : decode cX3_part 45 = .ok (.invokevirtual 170, 3) := dk_182 0 170 (dk_at dksX3_part_2 0 rfl rfl)
theorem dX3_part_48 : decode cX3_part 48 = .ok (.ifCond .ne 5, 3) := dk_154 0 5 (dk_at dksX3_part_2 3 rfl rfl)
theorem dX3_part_51 : decode cX3_part 51 = .ok (.iconst 0, 1) := dk_3 (dk_at dksX3_part_2 6 rfl rfl)
theorem dX3_part_52 : decode cX3_part 52 = .ok (.ireturn, 1) := dk_172 (dk_at dksX3_part_2 7 rfl rfl)
theorem dX3_part_53 : decode cX3_part 53 = .ok (.aload_n 0, 1) := dk_42 (dk_at dksX3_part_2 8 rfl rfl)
theorem dX3_part_54 : decode cX3_part 54 = .ok (.invokevirtual 294, 3) := dk_182 1 38 (dk_at dksX3_part_2 9 rfl rfl)
theorem dX3_part_57 : decode cX3_part 57 = .ok (.aload_n 0, 1) := dk_42 (dk_at dksX3_part_2 12 rfl rfl)
theorem dX3_part_58 : decode cX3_part 58 = .ok (.invokevirtual 99, 3) := dk_182 0 99 (dk_at dksX3_part_2 13 rfl rfl)
theorem dX3_part_61 : decode cX3_part 61 = .ok (.istore 4, 2) := dk_54 4 (dk_at dksX3_part_2 16 rfl rfl)
theorem dX3_part_63 : decode cX3_part 63 = .ok (.iload_n 2, 1) := dk_28 (dk_at dksX3_part_2 18 rfl rfl)
theorem dX3_part_64 : decode cX3_part 64 = .ok (.istore 5, 2) := dk_54 5 (dk_at dksX3_part_2 19 rfl rfl)
theorem dX3_part_66 : decode cX3_part 66 = .ok (.iload 5, 2) := dk_21 5 (dk_at dksX3_part_2 21 rfl rfl)
theorem dX3_part_68 : decode cX3_part 68 = .ok (.aload_n 0, 1) := dk_42 (dk_at dksX3_part_2 23 rfl rfl)
theorem dX3_part_69 : decode cX3_part 69 = .ok (.iload_n 1, 1) := dk_27 (dk_at dksX3_part_3 0 rfl rfl)
theorem dX3_part_70 : decode cX3_part 70 = .ok (.invokevirtual 139, 3) := dk_182 0 139 (dk_at dksX3_part_3 1 rfl rfl)
theorem dX3_part_73 : decode cX3_part 73 = .ok (.if_icmp .ge 30, 3) := dk_162 0 30 (dk_at dksX3_part_3 4 rfl rfl)
theorem dX3_part_76 : decode cX3_part 76 = .ok (.aload_n 0, 1) := dk_42 (dk_at dksX3_part_3 7 rfl rfl)
theorem dX3_part_77 : decode cX3_part 77 = .ok (.getfield 13, 3) := dk_180 0 13 (dk_at dksX3_part_3 8 rfl rfl)
theorem dX3_part_80 : decode cX3_part 80 = .ok (.iload 4, 2) := dk_21 4 (dk_at dksX3_part_3 11 rfl rfl)
theorem dX3_part_82 : decode cX3_part 82 = .ok (.iconst 3, 1) := dk_6 (dk_at dksX3_part_3 13 rfl rfl)
theorem dX3_part_83 : decode cX3_part 83 = .ok (.iadd, 1) := dk_96 (dk_at dksX3_part_3 14 rfl rfl)
theorem dX3_part_84 : decode cX3_part 84 = .ok (.iload 5, 2) := dk_21 5 (dk_at dksX3_part_3 15 rfl rfl)
theorem dX3_part_86 : decode cX3_part 86 = .ok (.iadd, 1) := dk_96 (dk_at dksX3_part_3 17 rfl rfl)
theorem dX3_part_87 : decode cX3_part 87 = .ok (.iload_n 2, 1) := dk_28 (dk_at dksX3_part_3 18 rfl rfl)
theorem dX3_part_88 : decode cX3_part 88 = .ok (.isub, 1) := dk_100 (dk_at dksX3_part_3 19 rfl rfl)
theorem dX3_part_89 : decode cX3_part 89 = .ok (.aload_n 0, 1) := dk_42 (dk_at dksX3_part_3 20 rfl rfl)
theorem dX3_part_90 : decode cX3_part 90 = .ok (.iload_n 1, 1) := dk_27 (dk_at dksX3_part_3 21 rfl rfl)
theorem dX3_part_91 : decode cX3_part 91 = .ok (.iload 5, 2) := dk_21 5 (dk_at dksX3_part_3 22 rfl rfl)
theorem dX3_part_93 : decode cX3_part 93 = .ok (.invokevirtual 133, 3) := dk_182 0 133 (dk_at dksX3_part_4 0 rfl rfl)
theorem dX3_part_96 : decode cX3_part 96 = .ok (.iastore, 1) := dk_79 (dk_at dksX3_part_4 3 rfl rfl)
theorem dX3_part_97 : decode cX3_part 97 = .ok (.iinc 5 1, 3) := dk_132 5 1 (dk_at dksX3_part_4 4 rfl rfl)
theorem dX3_part_100 : decode cX3_part 100 = .ok (.goto (-34), 3) := dk_167 255 222 (dk_at dksX3_part_4 7 rfl rfl)
theorem dX3_part_103 : decode cX3_part 103 = .ok (.aload_n 0, 1) := dk_42 (dk_at dksX3_part_4 10 rfl rfl)
theorem dX3_part_104 : decode cX3_part 104 = .ok (.getfield 13, 3) := dk_180 0 13 (dk_at dksX3_part_4 11 rfl rfl)
theorem dX3_part_107 : decode cX3_part 107 = .ok (.iload 4, 2) := dk_21 4 (dk_at dksX3_part_4 14 rfl rfl)
theorem dX3_part_109 : decode cX3_part 109 = .ok (.iconst 2, 1) := dk_5 (dk_at dksX3_part_4 16 rfl rfl)
theorem dX3_part_110 : decode cX3_part 110 = .ok (.iadd, 1) := dk_96 (dk_at dksX3_part_4 17 rfl rfl)
theorem dX3_part_111 : decode cX3_part 111 = .ok (.aload_n 0, 1) := dk_42 (dk_at dksX3_part_4 18 rfl rfl)
theorem dX3_part_112 : decode cX3_part 112 = .ok (.iload_n 1, 1) := dk_27 (dk_at dksX3_part_4 19 rfl rfl)
theorem dX3_part_113 : decode cX3_part 113 = .ok (.invokevirtual 139, 3) := dk_182 0 139 (dk_at dksX3_part_4 20 rfl rfl)
theorem dX3_part_116 : decode cX3_part 116 = .ok (.iload_n 2, 1) := dk_28 (dk_at dksX3_part_4 23 rfl rfl)
theorem dX3_part_117 : decode cX3_part 117 = .ok (.isub, 1) := dk_100 (dk_at dksX3_part_5 0 rfl rfl)
theorem dX3_part_118 : decode cX3_part 118 = .ok (.iastore, 1) := dk_79 (dk_at dksX3_part_5 1 rfl rfl)
theorem dX3_part_119 : decode cX3_part 119 = .ok (.aload_n 0, 1) := dk_42 (dk_at dksX3_part_5 2 rfl rfl)
theorem dX3_part_120 : decode cX3_part 120 = .ok (.getfield 13, 3) := dk_180 0 13 (dk_at dksX3_part_5 3 rfl rfl)
theorem dX3_part_123 : decode cX3_part 123 = .ok (.iload_n 1, 1) := dk_27 (dk_at dksX3_part_5 6 rfl rfl)
theorem dX3_part_124 : decode cX3_part 124 = .ok (.invokestatic 125, 3) := dk_184 0 125 (dk_at dksX3_part_5 7 rfl rfl)
theorem dX3_part_127 : decode cX3_part 127 = .ok (.iconst 2, 1) := dk_5 (dk_at dksX3_part_5 10 rfl rfl)
theorem dX3_part_128 : decode cX3_part 128 = .ok (.iadd, 1) := dk_96 (dk_at dksX3_part_5 11 rfl rfl)
theorem dX3_part_129 : decode cX3_part 129 = .ok (.iload_n 2, 1) := dk_28 (dk_at dksX3_part_5 12 rfl rfl)
theorem dX3_part_130 : decode cX3_part 130 = .ok (.iastore, 1) := dk_79 (dk_at dksX3_part_5 13 rfl rfl)
theorem dX3_part_131 : decode cX3_part 131 = .ok (.aload_n 0, 1) := dk_42 (dk_at dksX3_part_5 14 rfl rfl)
theorem dX3_part_132 : decode cX3_part 132 = .ok (.getfield 13, 3) := dk_180 0 13 (dk_at dksX3_part_5 15 rfl rfl)
theorem dX3_part_135 : decode cX3_part 135 = .ok (.iload 4, 2) := dk_21 4 (dk_at dksX3_part_5 18 rfl rfl)
theorem dX3_part_137 : decode cX3_part 137 = .ok (.iconst 0, 1) := dk_3 (dk_at dksX3_part_5 20 rfl rfl)
theorem dX3_part_138 : decode cX3_part 138 = .ok (.iadd, 1) := dk_96 (dk_at dksX3_part_5 21 rfl rfl)
theorem dX3_part_139 : decode cX3_part 139 = .ok (.iaload, 1) := dk_46 (dk_at dksX3_part_5 22 rfl rfl)
theorem dX3_part_140 : decode cX3_part 140 = .ok (.istore 5, 2) := dk_54 5 (dk_at dksX3_part_6 0 rfl rfl)
theorem dX3_part_142 : decode cX3_part 142 = .ok (.aload_n 0, 1) := dk_42 (dk_at dksX3_part_6 2 rfl rfl)
theorem dX3_part_143 : decode cX3_part 143 = .ok (.iload_n 1, 1) := dk_27 (dk_at dksX3_part_6 3 rfl rfl)
theorem dX3_part_144 : decode cX3_part 144 = .ok (.iconst 1, 1) := dk_4 (dk_at dksX3_part_6 4 rfl rfl)
theorem dX3_part_145 : decode cX3_part 145 = .ok (.iadd, 1) := dk_96 (dk_at dksX3_part_6 5 rfl rfl)
theorem dX3_part_146 : decode cX3_part 146 = .ok (.invokevirtual 300, 3) := dk_182 1 44 (dk_at dksX3_part_6 6 rfl rfl)
theorem dX3_part_149 : decode cX3_part 149 = .ok (.iload 5, 2) := dk_21 5 (dk_at dksX3_part_6 9 rfl rfl)
theorem dX3_part_151 : decode cX3_part 151 = .ok (.ireturn, 1) := dk_172 (dk_at dksX3_part_6 11 rfl rfl)
abbrev cX3_move : ByteArray := prog_21_method_115_code
def yX3_move : MethodName := ⟨RX3, "move", "(III)I"⟩
def dkwX3_move_4 : List UInt8 := [167, 0, 10, 29, 28, 27, 100, 4, 96, 100, 172]
abbrev dktX3_move_4 : List UInt8 := dkwX3_move_4 ++ []
def dkwX3_move_3 : List UInt8 := [161, 0, 10, 29, 28, 4, 96, 164, 0, 10, 42, 27, 28, 29, 182, 1, 31, 29, 27, 163, 0, 7, 29]
abbrev dktX3_move_3 : List UInt8 := dkwX3_move_3 ++ dktX3_move_4
def dkwX3_move_2 : List UInt8 := [29, 28, 164, 0, 7, 4, 167, 0, 4, 3, 182, 0, 170, 154, 0, 5, 3, 172, 42, 182, 1, 38, 29, 27]
abbrev dktX3_move_2 : List UInt8 := dkwX3_move_2 ++ dktX3_move_3
def dkwX3_move_1 : List UInt8 := [46, 4, 96, 184, 0, 95, 153, 0, 7, 4, 167, 0, 4, 3, 28, 27, 161, 0, 17, 29, 27, 164, 0, 8]
abbrev dktX3_move_1 : List UInt8 := dkwX3_move_1 ++ dktX3_move_2
def dkwX3_move_0 : List UInt8 := [42, 42, 27, 182, 0, 167, 153, 0, 31, 42, 28, 182, 0, 167, 153, 0, 23, 29, 4, 42, 180, 0, 13, 3]
abbrev dktX3_move_0 : List UInt8 := dkwX3_move_0 ++ dktX3_move_1
theorem dksX3_move_0 : cX3_move.data.toList.drop 0 = dktX3_move_0 := by decide +kernel
theorem dksX3_move_1 : cX3_move.data.toList.drop 24 = dktX3_move_1 := dk_seg dksX3_move_0 24 rfl rfl
theorem dksX3_move_2 : cX3_move.data.toList.drop 48 = dktX3_move_2 := dk_seg dksX3_move_1 24 rfl rfl
theorem dksX3_move_3 : cX3_move.data.toList.drop 72 = dktX3_move_3 := dk_seg dksX3_move_2 24 rfl rfl
theorem dksX3_move_4 : cX3_move.data.toList.drop 95 = dktX3_move_4 := dk_seg dksX3_move_3 23 rfl rfl
theorem dX3_move_0 : decode cX3_move 0 = .ok (.aload_n 0, 1) := dk_42 (dk_at dksX3_move_0 0 rfl rfl)
theorem dX3_move_1 : decode cX3_move 1 = .ok (.aload_n 0, 1) := dk_42 (dk_at dksX3_move_0 1 rfl rfl)
theorem dX3_move_2 : decode cX3_move 2 = .ok (.iload_n 1, 1) := dk_27 (dk_at dksX3_move_0 2 rfl rfl)
theorem dX3_move_3 : decode cX3_move 3 = .ok (.invokevirtual 167, 3) := dk_182 0 167 (dk_at dksX3_move_0 3 rfl rfl)
theorem dX3_move_6 : decode cX3_move 6 = .ok (.ifCond .eq 31, 3) := dk_153 0 31 (dk_at dksX3_move_0 6 rfl rfl)
theorem dX3_move_9 : decode cX3_move 9 = .ok (.aload_n 0, 1) := dk_42 (dk_at dksX3_move_0 9 rfl rfl)
theorem dX3_move_10 : decode cX3_move 10 = .ok (.iload_n 2, 1) := dk_28 (dk_at dksX3_move_0 10 rfl rfl)
theorem dX3_move_11 : decode cX3_move 11 = .ok (.invokevirtual 167, 3) := dk_182 0 167 (dk_at dksX3_move_0 11 rfl rfl)
theorem dX3_move_14 : decode cX3_move 14 = .ok (.ifCond .eq 23, 3) := dk_153 0 23 (dk_at dksX3_move_0 14 rfl rfl)
theorem dX3_move_17 : decode cX3_move 17 = .ok (.iload_n 3, 1) := dk_29 (dk_at dksX3_move_0 17 rfl rfl)
theorem dX3_move_18 : decode cX3_move 18 = .ok (.iconst 1, 1) := dk_4 (dk_at dksX3_move_0 18 rfl rfl)
theorem dX3_move_19 : decode cX3_move 19 = .ok (.aload_n 0, 1) := dk_42 (dk_at dksX3_move_0 19 rfl rfl)
theorem dX3_move_20 : decode cX3_move 20 = .ok (.getfield 13, 3) := dk_180 0 13 (dk_at dksX3_move_0 20 rfl rfl)
theorem dX3_move_23 : decode cX3_move 23 = .ok (.iconst 0, 1) := dk_3 (dk_at dksX3_move_0 23 rfl rfl)
theorem dX3_move_24 : decode cX3_move 24 = .ok (.iaload, 1) := dk_46 (dk_at dksX3_move_1 0 rfl rfl)
theorem dX3_move_25 : decode cX3_move 25 = .ok (.iconst 1, 1) := dk_4 (dk_at dksX3_move_1 1 rfl rfl)
theorem dX3_move_26 : decode cX3_move 26 = .ok (.iadd, 1) := dk_96 (dk_at dksX3_move_1 2 rfl rfl)
theorem dX3_move_27 : decode cX3_move 27 = .ok (.invokestatic 95, 3) := dk_184 0 95 (dk_at dksX3_move_1 3 rfl rfl)
theorem dX3_move_30 : decode cX3_move 30 = .ok (.ifCond .eq 7, 3) := dk_153 0 7 (dk_at dksX3_move_1 6 rfl rfl)
theorem dX3_move_33 : decode cX3_move 33 = .ok (.iconst 1, 1) := dk_4 (dk_at dksX3_move_1 9 rfl rfl)
theorem dX3_move_34 : decode cX3_move 34 = .ok (.goto 4, 3) := dk_167 0 4 (dk_at dksX3_move_1 10 rfl rfl)
theorem dX3_move_37 : decode cX3_move 37 = .ok (.iconst 0, 1) := dk_3 (dk_at dksX3_move_1 13 rfl rfl)
theorem dX3_move_38 : decode cX3_move 38 = .ok (.iload_n 2, 1) := dk_28 (dk_at dksX3_move_1 14 rfl rfl)
theorem dX3_move_39 : decode cX3_move 39 = .ok (.iload_n 1, 1) := dk_27 (dk_at dksX3_move_1 15 rfl rfl)
theorem dX3_move_40 : decode cX3_move 40 = .ok (.if_icmp .lt 17, 3) := dk_161 0 17 (dk_at dksX3_move_1 16 rfl rfl)
theorem dX3_move_43 : decode cX3_move 43 = .ok (.iload_n 3, 1) := dk_29 (dk_at dksX3_move_1 19 rfl rfl)
theorem dX3_move_44 : decode cX3_move 44 = .ok (.iload_n 1, 1) := dk_27 (dk_at dksX3_move_1 20 rfl rfl)
theorem dX3_move_45 : decode cX3_move 45 = .ok (.if_icmp .le 8, 3) := dk_164 0 8 (dk_at dksX3_move_1 21 rfl rfl)
theorem dX3_move_48 : decode cX3_move 48 = .ok (.iload_n 3, 1) := dk_29 (dk_at dksX3_move_2 0 rfl rfl)
theorem dX3_move_49 : decode cX3_move 49 = .ok (.iload_n 2, 1) := dk_28 (dk_at dksX3_move_2 1 rfl rfl)
theorem dX3_move_50 : decode cX3_move 50 = .ok (.if_icmp .le 7, 3) := dk_164 0 7 (dk_at dksX3_move_2 2 rfl rfl)
theorem dX3_move_53 : decode cX3_move 53 = .ok (.iconst 1, 1) := dk_4 (dk_at dksX3_move_2 5 rfl rfl)
theorem dX3_move_54 : decode cX3_move 54 = .ok (.goto 4, 3) := dk_167 0 4 (dk_at dksX3_move_2 6 rfl rfl)
theorem dX3_move_57 : decode cX3_move 57 = .ok (.iconst 0, 1) := dk_3 (dk_at dksX3_move_2 9 rfl rfl)
theorem dX3_move_58 : decode cX3_move 58 = .ok (.invokevirtual 170, 3) := dk_182 0 170 (dk_at dksX3_move_2 10 rfl rfl)
theorem dX3_move_61 : decode cX3_move 61 = .ok (.ifCond .ne 5, 3) := dk_154 0 5 (dk_at dksX3_move_2 13 rfl rfl)
theorem dX3_move_64 : decode cX3_move 64 = .ok (.iconst 0, 1) := dk_3 (dk_at dksX3_move_2 16 rfl rfl)
theorem dX3_move_65 : decode cX3_move 65 = .ok (.ireturn, 1) := dk_172 (dk_at dksX3_move_2 17 rfl rfl)
theorem dX3_move_66 : decode cX3_move 66 = .ok (.aload_n 0, 1) := dk_42 (dk_at dksX3_move_2 18 rfl rfl)
theorem dX3_move_67 : decode cX3_move 67 = .ok (.invokevirtual 294, 3) := dk_182 1 38 (dk_at dksX3_move_2 19 rfl rfl)
theorem dX3_move_70 : decode cX3_move 70 = .ok (.iload_n 3, 1) := dk_29 (dk_at dksX3_move_2 22 rfl rfl)
theorem dX3_move_71 : decode cX3_move 71 = .ok (.iload_n 1, 1) := dk_27 (dk_at dksX3_move_2 23 rfl rfl)
theorem dX3_move_72 : decode cX3_move 72 = .ok (.if_icmp .lt 10, 3) := dk_161 0 10 (dk_at dksX3_move_3 0 rfl rfl)
theorem dX3_move_75 : decode cX3_move 75 = .ok (.iload_n 3, 1) := dk_29 (dk_at dksX3_move_3 3 rfl rfl)
theorem dX3_move_76 : decode cX3_move 76 = .ok (.iload_n 2, 1) := dk_28 (dk_at dksX3_move_3 4 rfl rfl)
theorem dX3_move_77 : decode cX3_move 77 = .ok (.iconst 1, 1) := dk_4 (dk_at dksX3_move_3 5 rfl rfl)
theorem dX3_move_78 : decode cX3_move 78 = .ok (.iadd, 1) := dk_96 (dk_at dksX3_move_3 6 rfl rfl)
theorem dX3_move_79 : decode cX3_move 79 = .ok (.if_icmp .le 10, 3) := dk_164 0 10 (dk_at dksX3_move_3 7 rfl rfl)
theorem dX3_move_82 : decode cX3_move 82 = .ok (.aload_n 0, 1) := dk_42 (dk_at dksX3_move_3 10 rfl rfl)
theorem dX3_move_83 : decode cX3_move 83 = .ok (.iload_n 1, 1) := dk_27 (dk_at dksX3_move_3 11 rfl rfl)
theorem dX3_move_84 : decode cX3_move 84 = .ok (.iload_n 2, 1) := dk_28 (dk_at dksX3_move_3 12 rfl rfl)
theorem dX3_move_85 : decode cX3_move 85 = .ok (.iload_n 3, 1) := dk_29 (dk_at dksX3_move_3 13 rfl rfl)
theorem dX3_move_86 : decode cX3_move 86 = .ok (.invokevirtual 287, 3) := dk_182 1 31 (dk_at dksX3_move_3 14 rfl rfl)
theorem dX3_move_89 : decode cX3_move 89 = .ok (.iload_n 3, 1) := dk_29 (dk_at dksX3_move_3 17 rfl rfl)
theorem dX3_move_90 : decode cX3_move 90 = .ok (.iload_n 1, 1) := dk_27 (dk_at dksX3_move_3 18 rfl rfl)
theorem dX3_move_91 : decode cX3_move 91 = .ok (.if_icmp .gt 7, 3) := dk_163 0 7 (dk_at dksX3_move_3 19 rfl rfl)
theorem dX3_move_94 : decode cX3_move 94 = .ok (.iload_n 3, 1) := dk_29 (dk_at dksX3_move_3 22 rfl rfl)
theorem dX3_move_95 : decode cX3_move 95 = .ok (.goto 10, 3) := dk_167 0 10 (dk_at dksX3_move_4 0 rfl rfl)
theorem dX3_move_98 : decode cX3_move 98 = .ok (.iload_n 3, 1) := dk_29 (dk_at dksX3_move_4 3 rfl rfl)
theorem dX3_move_99 : decode cX3_move 99 = .ok (.iload_n 2, 1) := dk_28 (dk_at dksX3_move_4 4 rfl rfl)
theorem dX3_move_100 : decode cX3_move 100 = .ok (.iload_n 1, 1) := dk_27 (dk_at dksX3_move_4 5 rfl rfl)
theorem dX3_move_101 : decode cX3_move 101 = .ok (.isub, 1) := dk_100 (dk_at dksX3_move_4 6 rfl rfl)
theorem dX3_move_102 : decode cX3_move 102 = .ok (.iconst 1, 1) := dk_4 (dk_at dksX3_move_4 7 rfl rfl)
theorem dX3_move_103 : decode cX3_move 103 = .ok (.iadd, 1) := dk_96 (dk_at dksX3_move_4 8 rfl rfl)
theorem dX3_move_104 : decode cX3_move 104 = .ok (.isub, 1) := dk_100 (dk_at dksX3_move_4 9 rfl rfl)
theorem dX3_move_105 : decode cX3_move 105 = .ok (.ireturn, 1) := dk_172 (dk_at dksX3_move_4 10 rfl rfl)
abbrev cX3_copy : ByteArray := prog_21_method_116_code
def yX3_copy : MethodName := ⟨RX3, "copy", "(III)I"⟩
def dkwX3_copy_7 : List UInt8 := [21, 5, 172]
abbrev dktX3_copy_7 : List UInt8 := dkwX3_copy_7 ++ []
def dkwX3_copy_6 : List UInt8 := [167, 255, 207, 29, 21, 4, 163, 0, 18, 42, 21, 4, 4, 96, 42, 180, 0, 13, 3, 46, 29, 182, 1, 31]
abbrev dktX3_copy_6 : List UInt8 := dkwX3_copy_6 ++ dktX3_copy_7
def dkwX3_copy_5 : List UInt8 := [21, 7, 21, 8, 96, 42, 21, 6, 21, 8, 182, 0, 129, 79, 132, 8, 1, 167, 255, 228, 132, 6, 1]
abbrev dktX3_copy_5 : List UInt8 := dkwX3_copy_5 ++ dktX3_copy_6
def dkwX3_copy_4 : List UInt8 := [28, 163, 0, 49, 42, 182, 0, 99, 54, 7, 5, 54, 8, 21, 8, 16, 27, 162, 0, 27, 42, 180, 0, 13]
abbrev dktX3_copy_4 : List UInt8 := dkwX3_copy_4 ++ dktX3_copy_5
def dkwX3_copy_3 : List UInt8 := [182, 1, 38, 42, 180, 0, 13, 3, 46, 54, 4, 42, 180, 0, 13, 4, 46, 54, 5, 27, 54, 6, 21, 6]
abbrev dktX3_copy_3 : List UInt8 := dkwX3_copy_3 ++ dktX3_copy_4
def dkwX3_copy_2 : List UInt8 := [46, 28, 96, 27, 100, 16, 80, 162, 0, 7, 4, 167, 0, 4, 3, 182, 0, 170, 154, 0, 5, 3, 172, 42]
abbrev dktX3_copy_2 : List UInt8 := dkwX3_copy_2 ++ dktX3_copy_3
def dkwX3_copy_1 : List UInt8 := [46, 4, 96, 184, 0, 95, 153, 0, 7, 4, 167, 0, 4, 3, 28, 27, 161, 0, 22, 42, 180, 0, 13, 3]
abbrev dktX3_copy_1 : List UInt8 := dkwX3_copy_1 ++ dktX3_copy_2
def dkwX3_copy_0 : List UInt8 := [42, 42, 27, 182, 0, 167, 153, 0, 31, 42, 28, 182, 0, 167, 153, 0, 23, 29, 4, 42, 180, 0, 13, 3]
abbrev dktX3_copy_0 : List UInt8 := dkwX3_copy_0 ++ dktX3_copy_1
theorem dksX3_copy_0 : cX3_copy.data.toList.drop 0 = dktX3_copy_0 := by decide +kernel
theorem dksX3_copy_1 : cX3_copy.data.toList.drop 24 = dktX3_copy_1 := dk_seg dksX3_copy_0 24 rfl rfl
theorem dksX3_copy_2 : cX3_copy.data.toList.drop 48 = dktX3_copy_2 := dk_seg dksX3_copy_1 24 rfl rfl
theorem dksX3_copy_3 : cX3_copy.data.toList.drop 72 = dktX3_copy_3 := dk_seg dksX3_copy_2 24 rfl rfl
theorem dksX3_copy_4 : cX3_copy.data.toList.drop 96 = dktX3_copy_4 := dk_seg dksX3_copy_3 24 rfl rfl
theorem dksX3_copy_5 : cX3_copy.data.toList.drop 120 = dktX3_copy_5 := dk_seg dksX3_copy_4 24 rfl rfl
theorem dksX3_copy_6 : cX3_copy.data.toList.drop 143 = dktX3_copy_6 := dk_seg dksX3_copy_5 23 rfl rfl
theorem dksX3_copy_7 : cX3_copy.data.toList.drop 167 = dktX3_copy_7 := dk_seg dksX3_copy_6 24 rfl rfl
theorem dX3_copy_0 : decode cX3_copy 0 = .ok (.aload_n 0, 1) := dk_42 (dk_at dksX3_copy_0 0 rfl rfl)
theorem dX3_copy_1 : decode cX3_copy 1 = .ok (.aload_n 0, 1) := dk_42 (dk_at dksX3_copy_0 1 rfl rfl)
theorem dX3_copy_2 : decode cX3_copy 2 = .ok (.iload_n 1, 1) := dk_27 (dk_at dksX3_copy_0 2 rfl rfl)
theorem dX3_copy_3 : decode cX3_copy 3 = .ok (.invokevirtual 167, 3) := dk_182 0 167 (dk_at dksX3_copy_0 3 rfl rfl)
theorem dX3_copy_6 : decode cX3_copy 6 = .ok (.ifCond .eq 31, 3) := dk_153 0 31 (dk_at dksX3_copy_0 6 rfl rfl)
theorem dX3_copy_9 : decode cX3_copy 9 = .ok (.aload_n 0, 1) := dk_42 (dk_at dksX3_copy_0 9 rfl rfl)
theorem dX3_copy_10 : decode cX3_copy 10 = .ok (.iload_n 2, 1) := dk_28 (dk_at dksX3_copy_0 10 rfl rfl)
theorem dX3_copy_11 : decode cX3_copy 11 = .ok (.invokevirtual 167, 3) := dk_182 0 167 (dk_at dksX3_copy_0 11 rfl rfl)
theorem dX3_copy_14 : decode cX3_copy 14 = .ok (.ifCond .eq 23, 3) := dk_153 0 23 (dk_at dksX3_copy_0 14 rfl rfl)
theorem dX3_copy_17 : decode cX3_copy 17 = .ok (.iload_n 3, 1) := dk_29 (dk_at dksX3_copy_0 17 rfl rfl)
theorem dX3_copy_18 : decode cX3_copy 18 = .ok (.iconst 1, 1) := dk_4 (dk_at dksX3_copy_0 18 rfl rfl)
theorem dX3_copy_19 : decode cX3_copy 19 = .ok (.aload_n 0, 1) := dk_42 (dk_at dksX3_copy_0 19 rfl rfl)
theorem dX3_copy_20 : decode cX3_copy 20 = .ok (.getfield 13, 3) := dk_180 0 13 (dk_at dksX3_copy_0 20 rfl rfl)
theorem dX3_copy_23 : decode cX3_copy 23 = .ok (.iconst 0, 1) := dk_3 (dk_at dksX3_copy_0 23 rfl rfl)
theorem dX3_copy_24 : decode cX3_copy 24 = .ok (.iaload, 1) := dk_46 (dk_at dksX3_copy_1 0 rfl rfl)
theorem dX3_copy_25 : decode cX3_copy 25 = .ok (.iconst 1, 1) := dk_4 (dk_at dksX3_copy_1 1 rfl rfl)
theorem dX3_copy_26 : decode cX3_copy 26 = .ok (.iadd, 1) := dk_96 (dk_at dksX3_copy_1 2 rfl rfl)
theorem dX3_copy_27 : decode cX3_copy 27 = .ok (.invokestatic 95, 3) := dk_184 0 95 (dk_at dksX3_copy_1 3 rfl rfl)
theorem dX3_copy_30 : decode cX3_copy 30 = .ok (.ifCond .eq 7, 3) := dk_153 0 7 (dk_at dksX3_copy_1 6 rfl rfl)
theorem dX3_copy_33 : decode cX3_copy 33 = .ok (.iconst 1, 1) := dk_4 (dk_at dksX3_copy_1 9 rfl rfl)
theorem dX3_copy_34 : decode cX3_copy 34 = .ok (.goto 4, 3) := dk_167 0 4 (dk_at dksX3_copy_1 10 rfl rfl)
theorem dX3_copy_37 : decode cX3_copy 37 = .ok (.iconst 0, 1) := dk_3 (dk_at dksX3_copy_1 13 rfl rfl)
theorem dX3_copy_38 : decode cX3_copy 38 = .ok (.iload_n 2, 1) := dk_28 (dk_at dksX3_copy_1 14 rfl rfl)
theorem dX3_copy_39 : decode cX3_copy 39 = .ok (.iload_n 1, 1) := dk_27 (dk_at dksX3_copy_1 15 rfl rfl)
theorem dX3_copy_40 : decode cX3_copy 40 = .ok (.if_icmp .lt 22, 3) := dk_161 0 22 (dk_at dksX3_copy_1 16 rfl rfl)
theorem dX3_copy_43 : decode cX3_copy 43 = .ok (.aload_n 0, 1) := dk_42 (dk_at dksX3_copy_1 19 rfl rfl)
theorem dX3_copy_44 : decode cX3_copy 44 = .ok (.getfield 13, 3) := dk_180 0 13 (dk_at dksX3_copy_1 20 rfl rfl)
theorem dX3_copy_47 : decode cX3_copy 47 = .ok (.iconst 0, 1) := dk_3 (dk_at dksX3_copy_1 23 rfl rfl)
theorem dX3_copy_48 : decode cX3_copy 48 = .ok (.iaload, 1) := dk_46 (dk_at dksX3_copy_2 0 rfl rfl)
theorem dX3_copy_49 : decode cX3_copy 49 = .ok (.iload_n 2, 1) := dk_28 (dk_at dksX3_copy_2 1 rfl rfl)
theorem dX3_copy_50 : decode cX3_copy 50 = .ok (.iadd, 1) := dk_96 (dk_at dksX3_copy_2 2 rfl rfl)
theorem dX3_copy_51 : decode cX3_copy 51 = .ok (.iload_n 1, 1) := dk_27 (dk_at dksX3_copy_2 3 rfl rfl)
theorem dX3_copy_52 : decode cX3_copy 52 = .ok (.isub, 1) := dk_100 (dk_at dksX3_copy_2 4 rfl rfl)
theorem dX3_copy_53 : decode cX3_copy 53 = .ok (.bipush 80, 2) := dk_16 80 (dk_at dksX3_copy_2 5 rfl rfl)
theorem dX3_copy_55 : decode cX3_copy 55 = .ok (.if_icmp .ge 7, 3) := dk_162 0 7 (dk_at dksX3_copy_2 7 rfl rfl)
theorem dX3_copy_58 : decode cX3_copy 58 = .ok (.iconst 1, 1) := dk_4 (dk_at dksX3_copy_2 10 rfl rfl)
theorem dX3_copy_59 : decode cX3_copy 59 = .ok (.goto 4, 3) := dk_167 0 4 (dk_at dksX3_copy_2 11 rfl rfl)
theorem dX3_copy_62 : decode cX3_copy 62 = .ok (.iconst 0, 1) := dk_3 (dk_at dksX3_copy_2 14 rfl rfl)
theorem dX3_copy_63 : decode cX3_copy 63 = .ok (.invokevirtual 170, 3) := dk_182 0 170 (dk_at dksX3_copy_2 15 rfl rfl)
theorem dX3_copy_66 : decode cX3_copy 66 = .ok (.ifCond .ne 5, 3) := dk_154 0 5 (dk_at dksX3_copy_2 18 rfl rfl)
theorem dX3_copy_69 : decode cX3_copy 69 = .ok (.iconst 0, 1) := dk_3 (dk_at dksX3_copy_2 21 rfl rfl)
theorem dX3_copy_70 : decode cX3_copy 70 = .ok (.ireturn, 1) := dk_172 (dk_at dksX3_copy_2 22 rfl rfl)
theorem dX3_copy_71 : decode cX3_copy 71 = .ok (.aload_n 0, 1) := dk_42 (dk_at dksX3_copy_2 23 rfl rfl)
theorem dX3_copy_72 : decode cX3_copy 72 = .ok (.invokevirtual 294, 3) := dk_182 1 38 (dk_at dksX3_copy_3 0 rfl rfl)
theorem dX3_copy_75 : decode cX3_copy 75 = .ok (.aload_n 0, 1) := dk_42 (dk_at dksX3_copy_3 3 rfl rfl)
theorem dX3_copy_76 : decode cX3_copy 76 = .ok (.getfield 13, 3) := dk_180 0 13 (dk_at dksX3_copy_3 4 rfl rfl)
theorem dX3_copy_79 : decode cX3_copy 79 = .ok (.iconst 0, 1) := dk_3 (dk_at dksX3_copy_3 7 rfl rfl)
theorem dX3_copy_80 : decode cX3_copy 80 = .ok (.iaload, 1) := dk_46 (dk_at dksX3_copy_3 8 rfl rfl)
theorem dX3_copy_81 : decode cX3_copy 81 = .ok (.istore 4, 2) := dk_54 4 (dk_at dksX3_copy_3 9 rfl rfl)
theorem dX3_copy_83 : decode cX3_copy 83 = .ok (.aload_n 0, 1) := dk_42 (dk_at dksX3_copy_3 11 rfl rfl)
theorem dX3_copy_84 : decode cX3_copy 84 = .ok (.getfield 13, 3) := dk_180 0 13 (dk_at dksX3_copy_3 12 rfl rfl)
theorem dX3_copy_87 : decode cX3_copy 87 = .ok (.iconst 1, 1) := dk_4 (dk_at dksX3_copy_3 15 rfl rfl)
theorem dX3_copy_88 : decode cX3_copy 88 = .ok (.iaload, 1) := dk_46 (dk_at dksX3_copy_3 16 rfl rfl)
theorem dX3_copy_89 : decode cX3_copy 89 = .ok (.istore 5, 2) := dk_54 5 (dk_at dksX3_copy_3 17 rfl rfl)
theorem dX3_copy_91 : decode cX3_copy 91 = .ok (.iload_n 1, 1) := dk_27 (dk_at dksX3_copy_3 19 rfl rfl)
theorem dX3_copy_92 : decode cX3_copy 92 = .ok (.istore 6, 2) := dk_54 6 (dk_at dksX3_copy_3 20 rfl rfl)
theorem dX3_copy_94 : decode cX3_copy 94 = .ok (.iload 6, 2) := dk_21 6 (dk_at dksX3_copy_3 22 rfl rfl)
theorem dX3_copy_96 : decode cX3_copy 96 = .ok (.iload_n 2, 1) := dk_28 (dk_at dksX3_copy_4 0 rfl rfl)
theorem dX3_copy_97 : decode cX3_copy 97 = .ok (.if_icmp .gt 49, 3) := dk_163 0 49 (dk_at dksX3_copy_4 1 rfl rfl)
theorem dX3_copy_100 : decode cX3_copy 100 = .ok (.aload_n 0, 1) := dk_42 (dk_at dksX3_copy_4 4 rfl rfl)
theorem dX3_copy_101 : decode cX3_copy 101 = .ok (.invokevirtual 99, 3) := dk_182 0 99 (dk_at dksX3_copy_4 5 rfl rfl)
theorem dX3_copy_104 : decode cX3_copy 104 = .ok (.istore 7, 2) := dk_54 7 (dk_at dksX3_copy_4 8 rfl rfl)
theorem dX3_copy_106 : decode cX3_copy 106 = .ok (.iconst 2, 1) := dk_5 (dk_at dksX3_copy_4 10 rfl rfl)
theorem dX3_copy_107 : decode cX3_copy 107 = .ok (.istore 8, 2) := dk_54 8 (dk_at dksX3_copy_4 11 rfl rfl)
theorem dX3_copy_109 : decode cX3_copy 109 = .ok (.iload 8, 2) := dk_21 8 (dk_at dksX3_copy_4 13 rfl rfl)
theorem dX3_copy_111 : decode cX3_copy 111 = .ok (.bipush 27, 2) := dk_16 27 (dk_at dksX3_copy_4 15 rfl rfl)
theorem dX3_copy_113 : decode cX3_copy 113 = .ok (.if_icmp .ge 27, 3) := dk_162 0 27 (dk_at dksX3_copy_4 17 rfl rfl)
theorem dX3_copy_116 : decode cX3_copy 116 = .ok (.aload_n 0, 1) := dk_42 (dk_at dksX3_copy_4 20 rfl rfl)
theorem dX3_copy_117 : decode cX3_copy 117 = .ok (.getfield 13, 3) := dk_180 0 13 (dk_at dksX3_copy_4 21 rfl rfl)
theorem dX3_copy_120 : decode cX3_copy 120 = .ok (.iload 7, 2) := dk_21 7 (dk_at dksX3_copy_5 0 rfl rfl)
theorem dX3_copy_122 : decode cX3_copy 122 = .ok (.iload 8, 2) := dk_21 8 (dk_at dksX3_copy_5 2 rfl rfl)
theorem dX3_copy_124 : decode cX3_copy 124 = .ok (.iadd, 1) := dk_96 (dk_at dksX3_copy_5 4 rfl rfl)
theorem dX3_copy_125 : decode cX3_copy 125 = .ok (.aload_n 0, 1) := dk_42 (dk_at dksX3_copy_5 5 rfl rfl)
theorem dX3_copy_126 : decode cX3_copy 126 = .ok (.iload 6, 2) := dk_21 6 (dk_at dksX3_copy_5 6 rfl rfl)
theorem dX3_copy_128 : decode cX3_copy 128 = .ok (.iload 8, 2) := dk_21 8 (dk_at dksX3_copy_5 8 rfl rfl)
theorem dX3_copy_130 : decode cX3_copy 130 = .ok (.invokevirtual 129, 3) := dk_182 0 129 (dk_at dksX3_copy_5 10 rfl rfl)
theorem dX3_copy_133 : decode cX3_copy 133 = .ok (.iastore, 1) := dk_79 (dk_at dksX3_copy_5 13 rfl rfl)
theorem dX3_copy_134 : decode cX3_copy 134 = .ok (.iinc 8 1, 3) := dk_132 8 1 (dk_at dksX3_copy_5 14 rfl rfl)
theorem dX3_copy_137 : decode cX3_copy 137 = .ok (.goto (-28), 3) := dk_167 255 228 (dk_at dksX3_copy_5 17 rfl rfl)
theorem dX3_copy_140 : decode cX3_copy 140 = .ok (.iinc 6 1, 3) := dk_132 6 1 (dk_at dksX3_copy_5 20 rfl rfl)
theorem dX3_copy_143 : decode cX3_copy 143 = .ok (.goto (-49), 3) := dk_167 255 207 (dk_at dksX3_copy_6 0 rfl rfl)
theorem dX3_copy_146 : decode cX3_copy 146 = .ok (.iload_n 3, 1) := dk_29 (dk_at dksX3_copy_6 3 rfl rfl)
theorem dX3_copy_147 : decode cX3_copy 147 = .ok (.iload 4, 2) := dk_21 4 (dk_at dksX3_copy_6 4 rfl rfl)
theorem dX3_copy_149 : decode cX3_copy 149 = .ok (.if_icmp .gt 18, 3) := dk_163 0 18 (dk_at dksX3_copy_6 6 rfl rfl)
theorem dX3_copy_152 : decode cX3_copy 152 = .ok (.aload_n 0, 1) := dk_42 (dk_at dksX3_copy_6 9 rfl rfl)
theorem dX3_copy_153 : decode cX3_copy 153 = .ok (.iload 4, 2) := dk_21 4 (dk_at dksX3_copy_6 10 rfl rfl)
theorem dX3_copy_155 : decode cX3_copy 155 = .ok (.iconst 1, 1) := dk_4 (dk_at dksX3_copy_6 12 rfl rfl)
theorem dX3_copy_156 : decode cX3_copy 156 = .ok (.iadd, 1) := dk_96 (dk_at dksX3_copy_6 13 rfl rfl)
theorem dX3_copy_157 : decode cX3_copy 157 = .ok (.aload_n 0, 1) := dk_42 (dk_at dksX3_copy_6 14 rfl rfl)
theorem dX3_copy_158 : decode cX3_copy 158 = .ok (.getfield 13, 3) := dk_180 0 13 (dk_at dksX3_copy_6 15 rfl rfl)
theorem dX3_copy_161 : decode cX3_copy 161 = .ok (.iconst 0, 1) := dk_3 (dk_at dksX3_copy_6 18 rfl rfl)
theorem dX3_copy_162 : decode cX3_copy 162 = .ok (.iaload, 1) := dk_46 (dk_at dksX3_copy_6 19 rfl rfl)
theorem dX3_copy_163 : decode cX3_copy 163 = .ok (.iload_n 3, 1) := dk_29 (dk_at dksX3_copy_6 20 rfl rfl)
theorem dX3_copy_164 : decode cX3_copy 164 = .ok (.invokevirtual 287, 3) := dk_182 1 31 (dk_at dksX3_copy_6 21 rfl rfl)
theorem dX3_copy_167 : decode cX3_copy 167 = .ok (.iload 5, 2) := dk_21 5 (dk_at dksX3_copy_7 0 rfl rfl)
theorem dX3_copy_169 : decode cX3_copy 169 = .ok (.ireturn, 1) := dk_172 (dk_at dksX3_copy_7 2 rfl rfl)
abbrev cX3_reverse : ByteArray := prog_21_method_117_code
def yX3_reverse : MethodName := ⟨RX3, "reverse", "(II)I"⟩
def dkwX3_reverse_2 : List UInt8 := [182, 1, 28, 28, 27, 100, 4, 96, 62, 29, 29, 5, 112, 100, 172]
abbrev dktX3_reverse_2 : List UInt8 := dkwX3_reverse_2 ++ []
def dkwX3_reverse_1 : List UInt8 := [163, 0, 22, 42, 180, 0, 76, 29, 4, 100, 27, 28, 96, 29, 100, 79, 132, 3, 1, 167, 255, 235, 42]
abbrev dktX3_reverse_1 : List UInt8 := dkwX3_reverse_1 ++ dktX3_reverse_2
def dkwX3_reverse_0 : List UInt8 := [42, 27, 28, 182, 1, 47, 154, 0, 5, 3, 172, 42, 182, 1, 38, 42, 182, 1, 25, 27, 62, 29, 28]
abbrev dktX3_reverse_0 : List UInt8 := dkwX3_reverse_0 ++ dktX3_reverse_1
theorem dksX3_reverse_0 : cX3_reverse.data.toList.drop 0 = dktX3_reverse_0 := by decide +kernel
theorem dksX3_reverse_1 : cX3_reverse.data.toList.drop 23 = dktX3_reverse_1 := dk_seg dksX3_reverse_0 23 rfl rfl
theorem dksX3_reverse_2 : cX3_reverse.data.toList.drop 46 = dktX3_reverse_2 := dk_seg dksX3_reverse_1 23 rfl rfl
theorem dX3_reverse_0 : decode cX3_reverse 0 = .ok (.aload_n 0, 1) := dk_42 (dk_at dksX3_reverse_0 0 rfl rfl)
theorem dX3_reverse_1 : decode cX3_reverse 1 = .ok (.iload_n 1, 1) := dk_27 (dk_at dksX3_reverse_0 1 rfl rfl)
theorem dX3_reverse_2 : decode cX3_reverse 2 = .ok (.iload_n 2, 1) := dk_28 (dk_at dksX3_reverse_0 2 rfl rfl)
theorem dX3_reverse_3 : decode cX3_reverse 3 = .ok (.invokevirtual 303, 3) := dk_182 1 47 (dk_at dksX3_reverse_0 3 rfl rfl)
theorem dX3_reverse_6 : decode cX3_reverse 6 = .ok (.ifCond .ne 5, 3) := dk_154 0 5 (dk_at dksX3_reverse_0 6 rfl rfl)
theorem dX3_reverse_9 : decode cX3_reverse 9 = .ok (.iconst 0, 1) := dk_3 (dk_at dksX3_reverse_0 9 rfl rfl)
theorem dX3_reverse_10 : decode cX3_reverse 10 = .ok (.ireturn, 1) := dk_172 (dk_at dksX3_reverse_0 10 rfl rfl)
theorem dX3_reverse_11 : decode cX3_reverse 11 = .ok (.aload_n 0, 1) := dk_42 (dk_at dksX3_reverse_0 11 rfl rfl)
theorem dX3_reverse_12 : decode cX3_reverse 12 = .ok (.invokevirtual 294, 3) := dk_182 1 38 (dk_at dksX3_reverse_0 12 rfl rfl)
theorem dX3_reverse_15 : decode cX3_reverse 15 = .ok (.aload_n 0, 1) := dk_42 (dk_at dksX3_reverse_0 15 rfl rfl)
theorem dX3_reverse_16 : decode cX3_reverse 16 = .ok (.invokevirtual 281, 3) := dk_182 1 25 (dk_at dksX3_reverse_0 16 rfl rfl)
theorem dX3_reverse_19 : decode cX3_reverse 19 = .ok (.iload_n 1, 1) := dk_27 (dk_at dksX3_reverse_0 19 rfl rfl)
theorem dX3_reverse_20 : decode cX3_reverse 20 = .ok (.istore_n 3, 1) := dk_62 (dk_at dksX3_reverse_0 20 rfl rfl)
theorem dX3_reverse_21 : decode cX3_reverse 21 = .ok (.iload_n 3, 1) := dk_29 (dk_at dksX3_reverse_0 21 rfl rfl)
theorem dX3_reverse_22 : decode cX3_reverse 22 = .ok (.iload_n 2, 1) := dk_28 (dk_at dksX3_reverse_0 22 rfl rfl)
theorem dX3_reverse_23 : decode cX3_reverse 23 = .ok (.if_icmp .gt 22, 3) := dk_163 0 22 (dk_at dksX3_reverse_1 0 rfl rfl)
theorem dX3_reverse_26 : decode cX3_reverse 26 = .ok (.aload_n 0, 1) := dk_42 (dk_at dksX3_reverse_1 3 rfl rfl)
theorem dX3_reverse_27 : decode cX3_reverse 27 = .ok (.getfield 76, 3) := dk_180 0 76 (dk_at dksX3_reverse_1 4 rfl rfl)
theorem dX3_reverse_30 : decode cX3_reverse 30 = .ok (.iload_n 3, 1) := dk_29 (dk_at dksX3_reverse_1 7 rfl rfl)
theorem dX3_reverse_31 : decode cX3_reverse 31 = .ok (.iconst 1, 1) := dk_4 (dk_at dksX3_reverse_1 8 rfl rfl)
theorem dX3_reverse_32 : decode cX3_reverse 32 = .ok (.isub, 1) := dk_100 (dk_at dksX3_reverse_1 9 rfl rfl)
theorem dX3_reverse_33 : decode cX3_reverse 33 = .ok (.iload_n 1, 1) := dk_27 (dk_at dksX3_reverse_1 10 rfl rfl)
theorem dX3_reverse_34 : decode cX3_reverse 34 = .ok (.iload_n 2, 1) := dk_28 (dk_at dksX3_reverse_1 11 rfl rfl)
theorem dX3_reverse_35 : decode cX3_reverse 35 = .ok (.iadd, 1) := dk_96 (dk_at dksX3_reverse_1 12 rfl rfl)
theorem dX3_reverse_36 : decode cX3_reverse 36 = .ok (.iload_n 3, 1) := dk_29 (dk_at dksX3_reverse_1 13 rfl rfl)
theorem dX3_reverse_37 : decode cX3_reverse 37 = .ok (.isub, 1) := dk_100 (dk_at dksX3_reverse_1 14 rfl rfl)
theorem dX3_reverse_38 : decode cX3_reverse 38 = .ok (.iastore, 1) := dk_79 (dk_at dksX3_reverse_1 15 rfl rfl)
theorem dX3_reverse_39 : decode cX3_reverse 39 = .ok (.iinc 3 1, 3) := dk_132 3 1 (dk_at dksX3_reverse_1 16 rfl rfl)
theorem dX3_reverse_42 : decode cX3_reverse 42 = .ok (.goto (-21), 3) := dk_167 255 235 (dk_at dksX3_reverse_1 19 rfl rfl)
theorem dX3_reverse_45 : decode cX3_reverse 45 = .ok (.aload_n 0, 1) := dk_42 (dk_at dksX3_reverse_1 22 rfl rfl)
theorem dX3_reverse_46 : decode cX3_reverse 46 = .ok (.invokevirtual 284, 3) := dk_182 1 28 (dk_at dksX3_reverse_2 0 rfl rfl)
theorem dX3_reverse_49 : decode cX3_reverse 49 = .ok (.iload_n 2, 1) := dk_28 (dk_at dksX3_reverse_2 3 rfl rfl)
theorem dX3_reverse_50 : decode cX3_reverse 50 = .ok (.iload_n 1, 1) := dk_27 (dk_at dksX3_reverse_2 4 rfl rfl)
theorem dX3_reverse_51 : decode cX3_reverse 51 = .ok (.isub, 1) := dk_100 (dk_at dksX3_reverse_2 5 rfl rfl)
theorem dX3_reverse_52 : decode cX3_reverse 52 = .ok (.iconst 1, 1) := dk_4 (dk_at dksX3_reverse_2 6 rfl rfl)
theorem dX3_reverse_53 : decode cX3_reverse 53 = .ok (.iadd, 1) := dk_96 (dk_at dksX3_reverse_2 7 rfl rfl)
theorem dX3_reverse_54 : decode cX3_reverse 54 = .ok (.istore_n 3, 1) := dk_62 (dk_at dksX3_reverse_2 8 rfl rfl)
theorem dX3_reverse_55 : decode cX3_reverse 55 = .ok (.iload_n 3, 1) := dk_29 (dk_at dksX3_reverse_2 9 rfl rfl)
theorem dX3_reverse_56 : decode cX3_reverse 56 = .ok (.iload_n 3, 1) := dk_29 (dk_at dksX3_reverse_2 10 rfl rfl)
theorem dX3_reverse_57 : decode cX3_reverse 57 = .ok (.iconst 2, 1) := dk_5 (dk_at dksX3_reverse_2 11 rfl rfl)
theorem dX3_reverse_58 : decode cX3_reverse 58 = .ok (.irem, 1) := dk_112 (dk_at dksX3_reverse_2 12 rfl rfl)
theorem dX3_reverse_59 : decode cX3_reverse 59 = .ok (.isub, 1) := dk_100 (dk_at dksX3_reverse_2 13 rfl rfl)
theorem dX3_reverse_60 : decode cX3_reverse 60 = .ok (.ireturn, 1) := dk_172 (dk_at dksX3_reverse_2 14 rfl rfl)
abbrev cX3_close : ByteArray := prog_21_method_118_code
def yX3_close : MethodName := ⟨RX3, "close", "(IZ)Z"⟩
def dkwX3_close_2 : List UInt8 := [4, 167, 0, 4, 3, 79, 29, 172]
abbrev dktX3_close_2 : List UInt8 := dkwX3_close_2 ++ []
def dkwX3_close_1 : List UInt8 := [4, 160, 0, 7, 4, 167, 0, 4, 3, 62, 42, 180, 0, 13, 27, 184, 0, 125, 4, 96, 28, 153, 0, 7]
abbrev dktX3_close_1 : List UInt8 := dkwX3_close_1 ++ dktX3_close_2
def dkwX3_close_0 : List UInt8 := [42, 42, 27, 182, 0, 167, 182, 0, 111, 154, 0, 5, 3, 172, 42, 182, 1, 38, 42, 27, 4, 182, 0, 129]
abbrev dktX3_close_0 : List UInt8 := dkwX3_close_0 ++ dktX3_close_1
theorem dksX3_close_0 : cX3_close.data.toList.drop 0 = dktX3_close_0 := by decide +kernel
theorem dksX3_close_1 : cX3_close.data.toList.drop 24 = dktX3_close_1 := dk_seg dksX3_close_0 24 rfl rfl
theorem dksX3_close_2 : cX3_close.data.toList.drop 48 = dktX3_close_2 := dk_seg dksX3_close_1 24 rfl rfl
theorem dX3_close_0 : decode cX3_close 0 = .ok (.aload_n 0, 1) := dk_42 (dk_at dksX3_close_0 0 rfl rfl)
theorem dX3_close_1 : decode cX3_close 1 = .ok (.aload_n 0, 1) := dk_42 (dk_at dksX3_close_0 1 rfl rfl)
theorem dX3_close_2 : decode cX3_close 2 = .ok (.iload_n 1, 1) := dk_27 (dk_at dksX3_close_0 2 rfl rfl)
theorem dX3_close_3 : decode cX3_close 3 = .ok (.invokevirtual 167, 3) := dk_182 0 167 (dk_at dksX3_close_0 3 rfl rfl)
theorem dX3_close_6 : decode cX3_close 6 = .ok (.invokevirtual 111, 3) := dk_182 0 111 (dk_at dksX3_close_0 6 rfl rfl)
theorem dX3_close_9 : decode cX3_close 9 = .ok (.ifCond .ne 5, 3) := dk_154 0 5 (dk_at dksX3_close_0 9 rfl rfl)
theorem dX3_close_12 : decode cX3_close 12 = .ok (.iconst 0, 1) := dk_3 (dk_at dksX3_close_0 12 rfl rfl)
theorem dX3_close_13 : decode cX3_close 13 = .ok (.ireturn, 1) := dk_172 (dk_at dksX3_close_0 13 rfl rfl)
theorem dX3_close_14 : decode cX3_close 14 = .ok (.aload_n 0, 1) := dk_42 (dk_at dksX3_close_0 14 rfl rfl)
theorem dX3_close_15 : decode cX3_close 15 = .ok (.invokevirtual 294, 3) := dk_182 1 38 (dk_at dksX3_close_0 15 rfl rfl)
theorem dX3_close_18 : decode cX3_close 18 = .ok (.aload_n 0, 1) := dk_42 (dk_at dksX3_close_0 18 rfl rfl)
theorem dX3_close_19 : decode cX3_close 19 = .ok (.iload_n 1, 1) := dk_27 (dk_at dksX3_close_0 19 rfl rfl)
theorem dX3_close_20 : decode cX3_close 20 = .ok (.iconst 1, 1) := dk_4 (dk_at dksX3_close_0 20 rfl rfl)
theorem dX3_close_21 : decode cX3_close 21 = .ok (.invokevirtual 129, 3) := dk_182 0 129 (dk_at dksX3_close_0 21 rfl rfl)
theorem dX3_close_24 : decode cX3_close 24 = .ok (.iconst 1, 1) := dk_4 (dk_at dksX3_close_1 0 rfl rfl)
theorem dX3_close_25 : decode cX3_close 25 = .ok (.if_icmp .ne 7, 3) := dk_160 0 7 (dk_at dksX3_close_1 1 rfl rfl)
theorem dX3_close_28 : decode cX3_close 28 = .ok (.iconst 1, 1) := dk_4 (dk_at dksX3_close_1 4 rfl rfl)
theorem dX3_close_29 : decode cX3_close 29 = .ok (.goto 4, 3) := dk_167 0 4 (dk_at dksX3_close_1 5 rfl rfl)
theorem dX3_close_32 : decode cX3_close 32 = .ok (.iconst 0, 1) := dk_3 (dk_at dksX3_close_1 8 rfl rfl)
theorem dX3_close_33 : decode cX3_close 33 = .ok (.istore_n 3, 1) := dk_62 (dk_at dksX3_close_1 9 rfl rfl)
theorem dX3_close_34 : decode cX3_close 34 = .ok (.aload_n 0, 1) := dk_42 (dk_at dksX3_close_1 10 rfl rfl)
theorem dX3_close_35 : decode cX3_close 35 = .ok (.getfield 13, 3) := dk_180 0 13 (dk_at dksX3_close_1 11 rfl rfl)
theorem dX3_close_38 : decode cX3_close 38 = .ok (.iload_n 1, 1) := dk_27 (dk_at dksX3_close_1 14 rfl rfl)
theorem dX3_close_39 : decode cX3_close 39 = .ok (.invokestatic 125, 3) := dk_184 0 125 (dk_at dksX3_close_1 15 rfl rfl)
theorem dX3_close_42 : decode cX3_close 42 = .ok (.iconst 1, 1) := dk_4 (dk_at dksX3_close_1 18 rfl rfl)
theorem dX3_close_43 : decode cX3_close 43 = .ok (.iadd, 1) := dk_96 (dk_at dksX3_close_1 19 rfl rfl)
theorem dX3_close_44 : decode cX3_close 44 = .ok (.iload_n 2, 1) := dk_28 (dk_at dksX3_close_1 20 rfl rfl)
theorem dX3_close_45 : decode cX3_close 45 = .ok (.ifCond .eq 7, 3) := dk_153 0 7 (dk_at dksX3_close_1 21 rfl rfl)
theorem dX3_close_48 : decode cX3_close 48 = .ok (.iconst 1, 1) := dk_4 (dk_at dksX3_close_2 0 rfl rfl)
theorem dX3_close_49 : decode cX3_close 49 = .ok (.goto 4, 3) := dk_167 0 4 (dk_at dksX3_close_2 1 rfl rfl)
theorem dX3_close_52 : decode cX3_close 52 = .ok (.iconst 0, 1) := dk_3 (dk_at dksX3_close_2 4 rfl rfl)
theorem dX3_close_53 : decode cX3_close 53 = .ok (.iastore, 1) := dk_79 (dk_at dksX3_close_2 5 rfl rfl)
theorem dX3_close_54 : decode cX3_close 54 = .ok (.iload_n 3, 1) := dk_29 (dk_at dksX3_close_2 6 rfl rfl)
theorem dX3_close_55 : decode cX3_close 55 = .ok (.ireturn, 1) := dk_172 (dk_at dksX3_close_2 7 rfl rfl)
abbrev cX3_fold : ByteArray := prog_21_method_119_code
def yX3_fold : MethodName := ⟨RX3, "fold", "(I)I"⟩
def dkwX3_fold_2 : List UInt8 := [42, 180, 0, 46, 29, 46, 184, 0, 125, 4, 96, 4, 79, 42, 180, 0, 46, 29, 46, 172]
abbrev dktX3_fold_2 : List UInt8 := dkwX3_fold_2 ++ []
def dkwX3_fold_1 : List UInt8 := [159, 0, 7, 4, 167, 0, 4, 3, 182, 0, 170, 154, 0, 5, 3, 172, 42, 182, 1, 38, 42, 180, 0, 13]
abbrev dktX3_fold_1 : List UInt8 := dkwX3_fold_1 ++ dktX3_fold_2
def dkwX3_fold_0 : List UInt8 := [42, 27, 182, 0, 167, 61, 28, 153, 0, 11, 42, 27, 182, 0, 236, 167, 0, 4, 2, 62, 42, 28, 29, 2]
abbrev dktX3_fold_0 : List UInt8 := dkwX3_fold_0 ++ dktX3_fold_1
theorem dksX3_fold_0 : cX3_fold.data.toList.drop 0 = dktX3_fold_0 := by decide +kernel
theorem dksX3_fold_1 : cX3_fold.data.toList.drop 24 = dktX3_fold_1 := dk_seg dksX3_fold_0 24 rfl rfl
theorem dksX3_fold_2 : cX3_fold.data.toList.drop 48 = dktX3_fold_2 := dk_seg dksX3_fold_1 24 rfl rfl
theorem dX3_fold_0 : decode cX3_fold 0 = .ok (.aload_n 0, 1) := dk_42 (dk_at dksX3_fold_0 0 rfl rfl)
theorem dX3_fold_1 : decode cX3_fold 1 = .ok (.iload_n 1, 1) := dk_27 (dk_at dksX3_fold_0 1 rfl rfl)
theorem dX3_fold_2 : decode cX3_fold 2 = .ok (.invokevirtual 167, 3) := dk_182 0 167 (dk_at dksX3_fold_0 2 rfl rfl)
theorem dX3_fold_5 : decode cX3_fold 5 = .ok (.istore_n 2, 1) := dk_61 (dk_at dksX3_fold_0 5 rfl rfl)
theorem dX3_fold_6 : decode cX3_fold 6 = .ok (.iload_n 2, 1) := dk_28 (dk_at dksX3_fold_0 6 rfl rfl)
theorem dX3_fold_7 : decode cX3_fold 7 = .ok (.ifCond .eq 11, 3) := dk_153 0 11 (dk_at dksX3_fold_0 7 rfl rfl)
theorem dX3_fold_10 : decode cX3_fold 10 = .ok (.aload_n 0, 1) := dk_42 (dk_at dksX3_fold_0 10 rfl rfl)
theorem dX3_fold_11 : decode cX3_fold 11 = .ok (.iload_n 1, 1) := dk_27 (dk_at dksX3_fold_0 11 rfl rfl)
theorem dX3_fold_12 : decode cX3_fold 12 = .ok (.invokevirtual 236, 3) := dk_182 0 236 (dk_at dksX3_fold_0 12 rfl rfl)
theorem dX3_fold_15 : decode cX3_fold 15 = .ok (.goto 4, 3) := dk_167 0 4 (dk_at dksX3_fold_0 15 rfl rfl)
theorem dX3_fold_18 : decode cX3_fold 18 = .ok (.iconst (-1), 1) := dk_2 (dk_at dksX3_fold_0 18 rfl rfl)
theorem dX3_fold_19 : decode cX3_fold 19 = .ok (.istore_n 3, 1) := dk_62 (dk_at dksX3_fold_0 19 rfl rfl)
theorem dX3_fold_20 : decode cX3_fold 20 = .ok (.aload_n 0, 1) := dk_42 (dk_at dksX3_fold_0 20 rfl rfl)
theorem dX3_fold_21 : decode cX3_fold 21 = .ok (.iload_n 2, 1) := dk_28 (dk_at dksX3_fold_0 21 rfl rfl)
theorem dX3_fold_22 : decode cX3_fold 22 = .ok (.iload_n 3, 1) := dk_29 (dk_at dksX3_fold_0 22 rfl rfl)
theorem dX3_fold_23 : decode cX3_fold 23 = .ok (.iconst (-1), 1) := dk_2 (dk_at dksX3_fold_0 23 rfl rfl)
theorem dX3_fold_24 : decode cX3_fold 24 = .ok (.if_icmp .eq 7, 3) := dk_159 0 7 (dk_at dksX3_fold_1 0 rfl rfl)
theorem dX3_fold_27 : decode cX3_fold 27 = .ok (.iconst 1, 1) := dk_4 (dk_at dksX3_fold_1 3 rfl rfl)
theorem dX3_fold_28 : decode cX3_fold 28 = .ok (.goto 4, 3) := dk_167 0 4 (dk_at dksX3_fold_1 4 rfl rfl)
theorem dX3_fold_31 : decode cX3_fold 31 = .ok (.iconst 0, 1) := dk_3 (dk_at dksX3_fold_1 7 rfl rfl)
theorem dX3_fold_32 : decode cX3_fold 32 = .ok (.invokevirtual 170, 3) := dk_182 0 170 (dk_at dksX3_fold_1 8 rfl rfl)
theorem dX3_fold_35 : decode cX3_fold 35 = .ok (.ifCond .ne 5, 3) := dk_154 0 5 (dk_at dksX3_fold_1 11 rfl rfl)
theorem dX3_fold_38 : decode cX3_fold 38 = .ok (.iconst 0, 1) := dk_3 (dk_at dksX3_fold_1 14 rfl rfl)
theorem dX3_fold_39 : decode cX3_fold 39 = .ok (.ireturn, 1) := dk_172 (dk_at dksX3_fold_1 15 rfl rfl)
theorem dX3_fold_40 : decode cX3_fold 40 = .ok (.aload_n 0, 1) := dk_42 (dk_at dksX3_fold_1 16 rfl rfl)
theorem dX3_fold_41 : decode cX3_fold 41 = .ok (.invokevirtual 294, 3) := dk_182 1 38 (dk_at dksX3_fold_1 17 rfl rfl)
theorem dX3_fold_44 : decode cX3_fold 44 = .ok (.aload_n 0, 1) := dk_42 (dk_at dksX3_fold_1 20 rfl rfl)
theorem dX3_fold_45 : decode cX3_fold 45 = .ok (.getfield 13, 3) := dk_180 0 13 (dk_at dksX3_fold_1 21 rfl rfl)
theorem dX3_fold_48 : decode cX3_fold 48 = .ok (.aload_n 0, 1) := dk_42 (dk_at dksX3_fold_2 0 rfl rfl)
theorem dX3_fold_49 : decode cX3_fold 49 = .ok (.getfield 46, 3) := dk_180 0 46 (dk_at dksX3_fold_2 1 rfl rfl)
theorem dX3_fold_52 : decode cX3_fold 52 = .ok (.iload_n 3, 1) := dk_29 (dk_at dksX3_fold_2 4 rfl rfl)
theorem dX3_fold_53 : decode cX3_fold 53 = .ok (.iaload, 1) := dk_46 (dk_at dksX3_fold_2 5 rfl rfl)
theorem dX3_fold_54 : decode cX3_fold 54 = .ok (.invokestatic 125, 3) := dk_184 0 125 (dk_at dksX3_fold_2 6 rfl rfl)
theorem dX3_fold_57 : decode cX3_fold 57 = .ok (.iconst 1, 1) := dk_4 (dk_at dksX3_fold_2 9 rfl rfl)
theorem dX3_fold_58 : decode cX3_fold 58 = .ok (.iadd, 1) := dk_96 (dk_at dksX3_fold_2 10 rfl rfl)
theorem dX3_fold_59 : decode cX3_fold 59 = .ok (.iconst 1, 1) := dk_4 (dk_at dksX3_fold_2 11 rfl rfl)
theorem dX3_fold_60 : decode cX3_fold 60 = .ok (.iastore, 1) := dk_79 (dk_at dksX3_fold_2 12 rfl rfl)
theorem dX3_fold_61 : decode cX3_fold 61 = .ok (.aload_n 0, 1) := dk_42 (dk_at dksX3_fold_2 13 rfl rfl)
theorem dX3_fold_62 : decode cX3_fold 62 = .ok (.getfield 46, 3) := dk_180 0 46 (dk_at dksX3_fold_2 14 rfl rfl)
theorem dX3_fold_65 : decode cX3_fold 65 = .ok (.iload_n 3, 1) := dk_29 (dk_at dksX3_fold_2 17 rfl rfl)
theorem dX3_fold_66 : decode cX3_fold 66 = .ok (.iaload, 1) := dk_46 (dk_at dksX3_fold_2 18 rfl rfl)
theorem dX3_fold_67 : decode cX3_fold 67 = .ok (.ireturn, 1) := dk_172 (dk_at dksX3_fold_2 19 rfl rfl)
abbrev cX3_closeLevel : ByteArray := prog_21_method_120_code
def yX3_closeLevel : MethodName := ⟨RX3, "closeLevel", "(I)I"⟩
def dkwX3_closeLevel_3 : List UInt8 := [184, 0, 125, 4, 96, 4, 79, 132, 2, 1, 132, 3, 1, 167, 255, 204, 28, 172]
abbrev dktX3_closeLevel_3 : List UInt8 := dkwX3_closeLevel_3 ++ []
def dkwX3_closeLevel_2 : List UInt8 := [160, 0, 34, 42, 29, 182, 0, 215, 153, 0, 6, 167, 0, 23, 42, 180, 0, 13, 42, 180, 0, 46, 29, 46]
abbrev dktX3_closeLevel_2 : List UInt8 := dkwX3_closeLevel_2 ++ dktX3_closeLevel_3
def dkwX3_closeLevel_1 : List UInt8 := [182, 0, 161, 3, 61, 3, 62, 29, 42, 180, 0, 145, 162, 0, 50, 42, 180, 0, 58, 29, 46, 27]
abbrev dktX3_closeLevel_1 : List UInt8 := dkwX3_closeLevel_1 ++ dktX3_closeLevel_2
def dkwX3_closeLevel_0 : List UInt8 := [42, 27, 155, 0, 7, 4, 167, 0, 4, 3, 182, 0, 111, 154, 0, 5, 3, 172, 42, 182, 1, 38, 42]
abbrev dktX3_closeLevel_0 : List UInt8 := dkwX3_closeLevel_0 ++ dktX3_closeLevel_1
theorem dksX3_closeLevel_0 : cX3_closeLevel.data.toList.drop 0 = dktX3_closeLevel_0 := by decide +kernel
theorem dksX3_closeLevel_1 : cX3_closeLevel.data.toList.drop 23 = dktX3_closeLevel_1 := dk_seg dksX3_closeLevel_0 23 rfl rfl
theorem dksX3_closeLevel_2 : cX3_closeLevel.data.toList.drop 45 = dktX3_closeLevel_2 := dk_seg dksX3_closeLevel_1 22 rfl rfl
theorem dksX3_closeLevel_3 : cX3_closeLevel.data.toList.drop 69 = dktX3_closeLevel_3 := dk_seg dksX3_closeLevel_2 24 rfl rfl
theorem dX3_closeLevel_0 : decode cX3_closeLevel 0 = .ok (.aload_n 0, 1) := dk_42 (dk_at dksX3_closeLevel_0 0 rfl rfl)
theorem dX3_closeLevel_1 : decode cX3_closeLevel 1 = .ok (.iload_n 1, 1) := dk_27 (dk_at dksX3_closeLevel_0 1 rfl rfl)
theorem dX3_closeLevel_2 : decode cX3_closeLevel 2 = .ok (.ifCond .lt 7, 3) := dk_155 0 7 (dk_at dksX3_closeLevel_0 2 rfl rfl)
theorem dX3_closeLevel_5 : decode cX3_closeLevel 5 = .ok (.iconst 1, 1) := dk_4 (dk_at dksX3_closeLevel_0 5 rfl rfl)
theorem dX3_closeLevel_6 : decode cX3_closeLevel 6 = .ok (.goto 4, 3) := dk_167 0 4 (dk_at dksX3_closeLevel_0 6 rfl rfl)
theorem dX3_closeLevel_9 : decode cX3_closeLevel 9 = .ok (.iconst 0, 1) := dk_3 (dk_at dksX3_closeLevel_0 9 rfl rfl)
theorem dX3_closeLevel_10 : decode cX3_closeLevel 10 = .ok (.invokevirtual 111, 3) := dk_182 0 111 (dk_at dksX3_closeLevel_0 10 rfl rfl)
theorem dX3_closeLevel_13 : decode cX3_closeLevel 13 = .ok (.ifCond .ne 5, 3) := dk_154 0 5 (dk_at dksX3_closeLevel_0 13 rfl rfl)
theorem dX3_closeLevel_16 : decode cX3_closeLevel 16 = .ok (.iconst 0, 1) := dk_3 (dk_at dksX3_closeLevel_0 16 rfl rfl)
theorem dX3_closeLevel_17 : decode cX3_closeLevel 17 = .ok (.ireturn, 1) := dk_172 (dk_at dksX3_closeLevel_0 17 rfl rfl)
theorem dX3_closeLevel_18 : decode cX3_closeLevel 18 = .ok (.aload_n 0, 1) := dk_42 (dk_at dksX3_closeLevel_0 18 rfl rfl)
theorem dX3_closeLevel_19 : decode cX3_closeLevel 19 = .ok (.invokevirtual 294, 3) := dk_182 1 38 (dk_at dksX3_closeLevel_0 19 rfl rfl)
theorem dX3_closeLevel_22 : decode cX3_closeLevel 22 = .ok (.aload_n 0, 1) := dk_42 (dk_at dksX3_closeLevel_0 22 rfl rfl)
theorem dX3_closeLevel_23 : decode cX3_closeLevel 23 = .ok (.invokevirtual 161, 3) := dk_182 0 161 (dk_at dksX3_closeLevel_1 0 rfl rfl)
theorem dX3_closeLevel_26 : decode cX3_closeLevel 26 = .ok (.iconst 0, 1) := dk_3 (dk_at dksX3_closeLevel_1 3 rfl rfl)
theorem dX3_closeLevel_27 : decode cX3_closeLevel 27 = .ok (.istore_n 2, 1) := dk_61 (dk_at dksX3_closeLevel_1 4 rfl rfl)
theorem dX3_closeLevel_28 : decode cX3_closeLevel 28 = .ok (.iconst 0, 1) := dk_3 (dk_at dksX3_closeLevel_1 5 rfl rfl)
theorem dX3_closeLevel_29 : decode cX3_closeLevel 29 = .ok (.istore_n 3, 1) := dk_62 (dk_at dksX3_closeLevel_1 6 rfl rfl)
theorem dX3_closeLevel_30 : decode cX3_closeLevel 30 = .ok (.iload_n 3, 1) := dk_29 (dk_at dksX3_closeLevel_1 7 rfl rfl)
theorem dX3_closeLevel_31 : decode cX3_closeLevel 31 = .ok (.aload_n 0, 1) := dk_42 (dk_at dksX3_closeLevel_1 8 rfl rfl)
theorem dX3_closeLevel_32 : decode cX3_closeLevel 32 = .ok (.getfield 145, 3) := dk_180 0 145 (dk_at dksX3_closeLevel_1 9 rfl rfl)
theorem dX3_closeLevel_35 : decode cX3_closeLevel 35 = .ok (.if_icmp .ge 50, 3) := dk_162 0 50 (dk_at dksX3_closeLevel_1 12 rfl rfl)
theorem dX3_closeLevel_38 : decode cX3_closeLevel 38 = .ok (.aload_n 0, 1) := dk_42 (dk_at dksX3_closeLevel_1 15 rfl rfl)
theorem dX3_closeLevel_39 : decode cX3_closeLevel 39 = .ok (.getfield 58, 3) := dk_180 0 58 (dk_at dksX3_closeLevel_1 16 rfl rfl)
theorem dX3_closeLevel_42 : decode cX3_closeLevel 42 = .ok (.iload_n 3, 1) := dk_29 (dk_at dksX3_closeLevel_1 19 rfl rfl)
theorem dX3_closeLevel_43 : decode cX3_closeLevel 43 = .ok (.iaload, 1) := dk_46 (dk_at dksX3_closeLevel_1 20 rfl rfl)
theorem dX3_closeLevel_44 : decode cX3_closeLevel 44 = .ok (.iload_n 1, 1) := dk_27 (dk_at dksX3_closeLevel_1 21 rfl rfl)
theorem dX3_closeLevel_45 : decode cX3_closeLevel 45 = .ok (.if_icmp .ne 34, 3) := dk_160 0 34 (dk_at dksX3_closeLevel_2 0 rfl rfl)
theorem dX3_closeLevel_48 : decode cX3_closeLevel 48 = .ok (.aload_n 0, 1) := dk_42 (dk_at dksX3_closeLevel_2 3 rfl rfl)
theorem dX3_closeLevel_49 : decode cX3_closeLevel 49 = .ok (.iload_n 3, 1) := dk_29 (dk_at dksX3_closeLevel_2 4 rfl rfl)
theorem dX3_closeLevel_50 : decode cX3_closeLevel 50 = .ok (.invokevirtual 215, 3) := dk_182 0 215 (dk_at dksX3_closeLevel_2 5 rfl rfl)
theorem dX3_closeLevel_53 : decode cX3_closeLevel 53 = .ok (.ifCond .eq 6, 3) := dk_153 0 6 (dk_at dksX3_closeLevel_2 8 rfl rfl)
theorem dX3_closeLevel_56 : decode cX3_closeLevel 56 = .ok (.goto 23, 3) := dk_167 0 23 (dk_at dksX3_closeLevel_2 11 rfl rfl)
theorem dX3_closeLevel_59 : decode cX3_closeLevel 59 = .ok (.aload_n 0, 1) := dk_42 (dk_at dksX3_closeLevel_2 14 rfl rfl)
theorem dX3_closeLevel_60 : decode cX3_closeLevel 60 = .ok (.getfield 13, 3) := dk_180 0 13 (dk_at dksX3_closeLevel_2 15 rfl rfl)
theorem dX3_closeLevel_63 : decode cX3_closeLevel 63 = .ok (.aload_n 0, 1) := dk_42 (dk_at dksX3_closeLevel_2 18 rfl rfl)
theorem dX3_closeLevel_64 : decode cX3_closeLevel 64 = .ok (.getfield 46, 3) := dk_180 0 46 (dk_at dksX3_closeLevel_2 19 rfl rfl)
theorem dX3_closeLevel_67 : decode cX3_closeLevel 67 = .ok (.iload_n 3, 1) := dk_29 (dk_at dksX3_closeLevel_2 22 rfl rfl)
theorem dX3_closeLevel_68 : decode cX3_closeLevel 68 = .ok (.iaload, 1) := dk_46 (dk_at dksX3_closeLevel_2 23 rfl rfl)
theorem dX3_closeLevel_69 : decode cX3_closeLevel 69 = .ok (.invokestatic 125, 3) := dk_184 0 125 (dk_at dksX3_closeLevel_3 0 rfl rfl)
theorem dX3_closeLevel_72 : decode cX3_closeLevel 72 = .ok (.iconst 1, 1) := dk_4 (dk_at dksX3_closeLevel_3 3 rfl rfl)
theorem dX3_closeLevel_73 : decode cX3_closeLevel 73 = .ok (.iadd, 1) := dk_96 (dk_at dksX3_closeLevel_3 4 rfl rfl)
theorem dX3_closeLevel_74 : decode cX3_closeLevel 74 = .ok (.iconst 1, 1) := dk_4 (dk_at dksX3_closeLevel_3 5 rfl rfl)
theorem dX3_closeLevel_75 : decode cX3_closeLevel 75 = .ok (.iastore, 1) := dk_79 (dk_at dksX3_closeLevel_3 6 rfl rfl)
theorem dX3_closeLevel_76 : decode cX3_closeLevel 76 = .ok (.iinc 2 1, 3) := dk_132 2 1 (dk_at dksX3_closeLevel_3 7 rfl rfl)
theorem dX3_closeLevel_79 : decode cX3_closeLevel 79 = .ok (.iinc 3 1, 3) := dk_132 3 1 (dk_at dksX3_closeLevel_3 10 rfl rfl)
theorem dX3_closeLevel_82 : decode cX3_closeLevel 82 = .ok (.goto (-52), 3) := dk_167 255 204 (dk_at dksX3_closeLevel_3 13 rfl rfl)
theorem dX3_closeLevel_85 : decode cX3_closeLevel 85 = .ok (.iload_n 2, 1) := dk_28 (dk_at dksX3_closeLevel_3 16 rfl rfl)
theorem dX3_closeLevel_86 : decode cX3_closeLevel 86 = .ok (.ireturn, 1) := dk_172 (dk_at dksX3_closeLevel_3 17 rfl rfl)
abbrev cX3_openAll : ByteArray := prog_21_method_121_code
def yX3_openAll : MethodName := ⟨RX3, "openAll", "()I"⟩
def dkwX3_openAll_2 : List UInt8 := [167, 255, 222, 27, 172]
abbrev dktX3_openAll_2 : List UInt8 := dkwX3_openAll_2 ++ []
def dkwX3_openAll_1 : List UInt8 := [42, 28, 4, 182, 0, 129, 96, 60, 42, 180, 0, 13, 28, 184, 0, 125, 4, 96, 3, 79, 132, 2, 1]
abbrev dktX3_openAll_1 : List UInt8 := dkwX3_openAll_1 ++ dktX3_openAll_2
def dkwX3_openAll_0 : List UInt8 := [42, 3, 181, 0, 1, 42, 182, 1, 38, 3, 60, 4, 61, 28, 42, 180, 0, 13, 3, 46, 163, 0, 30, 27]
abbrev dktX3_openAll_0 : List UInt8 := dkwX3_openAll_0 ++ dktX3_openAll_1
theorem dksX3_openAll_0 : cX3_openAll.data.toList.drop 0 = dktX3_openAll_0 := by decide +kernel
theorem dksX3_openAll_1 : cX3_openAll.data.toList.drop 24 = dktX3_openAll_1 := dk_seg dksX3_openAll_0 24 rfl rfl
theorem dksX3_openAll_2 : cX3_openAll.data.toList.drop 47 = dktX3_openAll_2 := dk_seg dksX3_openAll_1 23 rfl rfl
theorem dX3_openAll_0 : decode cX3_openAll 0 = .ok (.aload_n 0, 1) := dk_42 (dk_at dksX3_openAll_0 0 rfl rfl)
theorem dX3_openAll_1 : decode cX3_openAll 1 = .ok (.iconst 0, 1) := dk_3 (dk_at dksX3_openAll_0 1 rfl rfl)
theorem dX3_openAll_2 : decode cX3_openAll 2 = .ok (.putfield 1, 3) := dk_181 0 1 (dk_at dksX3_openAll_0 2 rfl rfl)
theorem dX3_openAll_5 : decode cX3_openAll 5 = .ok (.aload_n 0, 1) := dk_42 (dk_at dksX3_openAll_0 5 rfl rfl)
theorem dX3_openAll_6 : decode cX3_openAll 6 = .ok (.invokevirtual 294, 3) := dk_182 1 38 (dk_at dksX3_openAll_0 6 rfl rfl)
theorem dX3_openAll_9 : decode cX3_openAll 9 = .ok (.iconst 0, 1) := dk_3 (dk_at dksX3_openAll_0 9 rfl rfl)
theorem dX3_openAll_10 : decode cX3_openAll 10 = .ok (.istore_n 1, 1) := dk_60 (dk_at dksX3_openAll_0 10 rfl rfl)
theorem dX3_openAll_11 : decode cX3_openAll 11 = .ok (.iconst 1, 1) := dk_4 (dk_at dksX3_openAll_0 11 rfl rfl)
theorem dX3_openAll_12 : decode cX3_openAll 12 = .ok (.istore_n 2, 1) := dk_61 (dk_at dksX3_openAll_0 12 rfl rfl)
theorem dX3_openAll_13 : decode cX3_openAll 13 = .ok (.iload_n 2, 1) := dk_28 (dk_at dksX3_openAll_0 13 rfl rfl)
theorem dX3_openAll_14 : decode cX3_openAll 14 = .ok (.aload_n 0, 1) := dk_42 (dk_at dksX3_openAll_0 14 rfl rfl)
theorem dX3_openAll_15 : decode cX3_openAll 15 = .ok (.getfield 13, 3) := dk_180 0 13 (dk_at dksX3_openAll_0 15 rfl rfl)
theorem dX3_openAll_18 : decode cX3_openAll 18 = .ok (.iconst 0, 1) := dk_3 (dk_at dksX3_openAll_0 18 rfl rfl)
theorem dX3_openAll_19 : decode cX3_openAll 19 = .ok (.iaload, 1) := dk_46 (dk_at dksX3_openAll_0 19 rfl rfl)
theorem dX3_openAll_20 : decode cX3_openAll 20 = .ok (.if_icmp .gt 30, 3) := dk_163 0 30 (dk_at dksX3_openAll_0 20 rfl rfl)
theorem dX3_openAll_23 : decode cX3_openAll 23 = .ok (.iload_n 1, 1) := dk_27 (dk_at dksX3_openAll_0 23 rfl rfl)
theorem dX3_openAll_24 : decode cX3_openAll 24 = .ok (.aload_n 0, 1) := dk_42 (dk_at dksX3_openAll_1 0 rfl rfl)
theorem dX3_openAll_25 : decode cX3_openAll 25 = .ok (.iload_n 2, 1) := dk_28 (dk_at dksX3_openAll_1 1 rfl rfl)
theorem dX3_openAll_26 : decode cX3_openAll 26 = .ok (.iconst 1, 1) := dk_4 (dk_at dksX3_openAll_1 2 rfl rfl)
theorem dX3_openAll_27 : decode cX3_openAll 27 = .ok (.invokevirtual 129, 3) := dk_182 0 129 (dk_at dksX3_openAll_1 3 rfl rfl)
theorem dX3_openAll_30 : decode cX3_openAll 30 = .ok (.iadd, 1) := dk_96 (dk_at dksX3_openAll_1 6 rfl rfl)
theorem dX3_openAll_31 : decode cX3_openAll 31 = .ok (.istore_n 1, 1) := dk_60 (dk_at dksX3_openAll_1 7 rfl rfl)
theorem dX3_openAll_32 : decode cX3_openAll 32 = .ok (.aload_n 0, 1) := dk_42 (dk_at dksX3_openAll_1 8 rfl rfl)
theorem dX3_openAll_33 : decode cX3_openAll 33 = .ok (.getfield 13, 3) := dk_180 0 13 (dk_at dksX3_openAll_1 9 rfl rfl)
theorem dX3_openAll_36 : decode cX3_openAll 36 = .ok (.iload_n 2, 1) := dk_28 (dk_at dksX3_openAll_1 12 rfl rfl)
theorem dX3_openAll_37 : decode cX3_openAll 37 = .ok (.invokestatic 125, 3) := dk_184 0 125 (dk_at dksX3_openAll_1 13 rfl rfl)
theorem dX3_openAll_40 : decode cX3_openAll 40 = .ok (.iconst 1, 1) := dk_4 (dk_at dksX3_openAll_1 16 rfl rfl)
theorem dX3_openAll_41 : decode cX3_openAll 41 = .ok (.iadd, 1) := dk_96 (dk_at dksX3_openAll_1 17 rfl rfl)
theorem dX3_openAll_42 : decode cX3_openAll 42 = .ok (.iconst 0, 1) := dk_3 (dk_at dksX3_openAll_1 18 rfl rfl)
theorem dX3_openAll_43 : decode cX3_openAll 43 = .ok (.iastore, 1) := dk_79 (dk_at dksX3_openAll_1 19 rfl rfl)
theorem dX3_openAll_44 : decode cX3_openAll 44 = .ok (.iinc 2 1, 3) := dk_132 2 1 (dk_at dksX3_openAll_1 20 rfl rfl)
theorem dX3_openAll_47 : decode cX3_openAll 47 = .ok (.goto (-34), 3) := dk_167 255 222 (dk_at dksX3_openAll_2 0 rfl rfl)
theorem dX3_openAll_50 : decode cX3_openAll 50 = .ok (.iload_n 1, 1) := dk_27 (dk_at dksX3_openAll_2 3 rfl rfl)
theorem dX3_openAll_51 : decode cX3_openAll 51 = .ok (.ireturn, 1) := dk_172 (dk_at dksX3_openAll_2 4 rfl rfl)
abbrev cX3_show : ByteArray := prog_21_method_122_code
def yX3_show : MethodName := ⟨RX3, "show", "(I)I"⟩
def dkwX3_show_0 : List UInt8 := [42, 42, 27, 182, 0, 167, 182, 0, 111, 154, 0, 5, 3, 172, 42, 182, 1, 38, 42, 27, 182, 1, 10, 172]
abbrev dktX3_show_0 : List UInt8 := dkwX3_show_0 ++ []
theorem dksX3_show_0 : cX3_show.data.toList.drop 0 = dktX3_show_0 := by decide +kernel
theorem dX3_show_0 : decode cX3_show 0 = .ok (.aload_n 0, 1) := dk_42 (dk_at dksX3_show_0 0 rfl rfl)
theorem dX3_show_1 : decode cX3_show 1 = .ok (.aload_n 0, 1) := dk_42 (dk_at dksX3_show_0 1 rfl rfl)
theorem dX3_show_2 : decode cX3_show 2 = .ok (.iload_n 1, 1) := dk_27 (dk_at dksX3_show_0 2 rfl rfl)
theorem dX3_show_3 : decode cX3_show 3 = .ok (.invokevirtual 167, 3) := dk_182 0 167 (dk_at dksX3_show_0 3 rfl rfl)
theorem dX3_show_6 : decode cX3_show 6 = .ok (.invokevirtual 111, 3) := dk_182 0 111 (dk_at dksX3_show_0 6 rfl rfl)
theorem dX3_show_9 : decode cX3_show 9 = .ok (.ifCond .ne 5, 3) := dk_154 0 5 (dk_at dksX3_show_0 9 rfl rfl)
theorem dX3_show_12 : decode cX3_show 12 = .ok (.iconst 0, 1) := dk_3 (dk_at dksX3_show_0 12 rfl rfl)
theorem dX3_show_13 : decode cX3_show 13 = .ok (.ireturn, 1) := dk_172 (dk_at dksX3_show_0 13 rfl rfl)
theorem dX3_show_14 : decode cX3_show 14 = .ok (.aload_n 0, 1) := dk_42 (dk_at dksX3_show_0 14 rfl rfl)
theorem dX3_show_15 : decode cX3_show 15 = .ok (.invokevirtual 294, 3) := dk_182 1 38 (dk_at dksX3_show_0 15 rfl rfl)
theorem dX3_show_18 : decode cX3_show 18 = .ok (.aload_n 0, 1) := dk_42 (dk_at dksX3_show_0 18 rfl rfl)
theorem dX3_show_19 : decode cX3_show 19 = .ok (.iload_n 1, 1) := dk_27 (dk_at dksX3_show_0 19 rfl rfl)
theorem dX3_show_20 : decode cX3_show 20 = .ok (.invokevirtual 266, 3) := dk_182 1 10 (dk_at dksX3_show_0 20 rfl rfl)
theorem dX3_show_23 : decode cX3_show 23 = .ok (.ireturn, 1) := dk_172 (dk_at dksX3_show_0 23 rfl rfl)
abbrev cX3_mark : ByteArray := prog_21_method_123_code
def yX3_mark : MethodName := ⟨RX3, "mark", "(II)I"⟩
def dkwX3_mark_3 : List UInt8 := [180, 0, 13, 8, 27, 96, 28, 154, 0, 7, 2, 167, 0, 9, 42, 28, 3, 182, 0, 129, 79, 29, 172]
abbrev dktX3_mark_3 : List UInt8 := dkwX3_mark_3 ++ []
def dkwX3_mark_2 : List UInt8 := [2, 160, 0, 7, 3, 167, 0, 15, 42, 42, 180, 0, 13, 8, 27, 96, 46, 182, 0, 192, 62, 42]
abbrev dktX3_mark_2 : List UInt8 := dkwX3_mark_2 ++ dktX3_mark_3
def dkwX3_mark_1 : List UInt8 := [167, 0, 4, 3, 182, 0, 111, 154, 0, 5, 3, 172, 42, 182, 1, 38, 42, 180, 0, 13, 8, 27, 96, 46]
abbrev dktX3_mark_1 : List UInt8 := dkwX3_mark_1 ++ dktX3_mark_2
def dkwX3_mark_0 : List UInt8 := [42, 27, 184, 0, 245, 153, 0, 21, 28, 3, 42, 180, 0, 13, 3, 46, 184, 0, 95, 153, 0, 7, 4]
abbrev dktX3_mark_0 : List UInt8 := dkwX3_mark_0 ++ dktX3_mark_1
theorem dksX3_mark_0 : cX3_mark.data.toList.drop 0 = dktX3_mark_0 := by decide +kernel
theorem dksX3_mark_1 : cX3_mark.data.toList.drop 23 = dktX3_mark_1 := dk_seg dksX3_mark_0 23 rfl rfl
theorem dksX3_mark_2 : cX3_mark.data.toList.drop 47 = dktX3_mark_2 := dk_seg dksX3_mark_1 24 rfl rfl
theorem dksX3_mark_3 : cX3_mark.data.toList.drop 69 = dktX3_mark_3 := dk_seg dksX3_mark_2 22 rfl rfl
theorem dX3_mark_0 : decode cX3_mark 0 = .ok (.aload_n 0, 1) := dk_42 (dk_at dksX3_mark_0 0 rfl rfl)
theorem dX3_mark_1 : decode cX3_mark 1 = .ok (.iload_n 1, 1) := dk_27 (dk_at dksX3_mark_0 1 rfl rfl)
theorem dX3_mark_2 : decode cX3_mark 2 = .ok (.invokestatic 245, 3) := dk_184 0 245 (dk_at dksX3_mark_0 2 rfl rfl)
theorem dX3_mark_5 : decode cX3_mark 5 = .ok (.ifCond .eq 21, 3) := dk_153 0 21 (dk_at dksX3_mark_0 5 rfl rfl)
theorem dX3_mark_8 : decode cX3_mark 8 = .ok (.iload_n 2, 1) := dk_28 (dk_at dksX3_mark_0 8 rfl rfl)
theorem dX3_mark_9 : decode cX3_mark 9 = .ok (.iconst 0, 1) := dk_3 (dk_at dksX3_mark_0 9 rfl rfl)
theorem dX3_mark_10 : decode cX3_mark 10 = .ok (.aload_n 0, 1) := dk_42 (dk_at dksX3_mark_0 10 rfl rfl)
theorem dX3_mark_11 : decode cX3_mark 11 = .ok (.getfield 13, 3) := dk_180 0 13 (dk_at dksX3_mark_0 11 rfl rfl)
theorem dX3_mark_14 : decode cX3_mark 14 = .ok (.iconst 0, 1) := dk_3 (dk_at dksX3_mark_0 14 rfl rfl)
theorem dX3_mark_15 : decode cX3_mark 15 = .ok (.iaload, 1) := dk_46 (dk_at dksX3_mark_0 15 rfl rfl)
theorem dX3_mark_16 : decode cX3_mark 16 = .ok (.invokestatic 95, 3) := dk_184 0 95 (dk_at dksX3_mark_0 16 rfl rfl)
theorem dX3_mark_19 : decode cX3_mark 19 = .ok (.ifCond .eq 7, 3) := dk_153 0 7 (dk_at dksX3_mark_0 19 rfl rfl)
theorem dX3_mark_22 : decode cX3_mark 22 = .ok (.iconst 1, 1) := dk_4 (dk_at dksX3_mark_0 22 rfl rfl)
theorem dX3_mark_23 : decode cX3_mark 23 = .ok (.goto 4, 3) := dk_167 0 4 (dk_at dksX3_mark_1 0 rfl rfl)
theorem dX3_mark_26 : decode cX3_mark 26 = .ok (.iconst 0, 1) := dk_3 (dk_at dksX3_mark_1 3 rfl rfl)
theorem dX3_mark_27 : decode cX3_mark 27 = .ok (.invokevirtual 111, 3) := dk_182 0 111 (dk_at dksX3_mark_1 4 rfl rfl)
theorem dX3_mark_30 : decode cX3_mark 30 = .ok (.ifCond .ne 5, 3) := dk_154 0 5 (dk_at dksX3_mark_1 7 rfl rfl)
theorem dX3_mark_33 : decode cX3_mark 33 = .ok (.iconst 0, 1) := dk_3 (dk_at dksX3_mark_1 10 rfl rfl)
theorem dX3_mark_34 : decode cX3_mark 34 = .ok (.ireturn, 1) := dk_172 (dk_at dksX3_mark_1 11 rfl rfl)
theorem dX3_mark_35 : decode cX3_mark 35 = .ok (.aload_n 0, 1) := dk_42 (dk_at dksX3_mark_1 12 rfl rfl)
theorem dX3_mark_36 : decode cX3_mark 36 = .ok (.invokevirtual 294, 3) := dk_182 1 38 (dk_at dksX3_mark_1 13 rfl rfl)
theorem dX3_mark_39 : decode cX3_mark 39 = .ok (.aload_n 0, 1) := dk_42 (dk_at dksX3_mark_1 16 rfl rfl)
theorem dX3_mark_40 : decode cX3_mark 40 = .ok (.getfield 13, 3) := dk_180 0 13 (dk_at dksX3_mark_1 17 rfl rfl)
theorem dX3_mark_43 : decode cX3_mark 43 = .ok (.iconst 5, 1) := dk_8 (dk_at dksX3_mark_1 20 rfl rfl)
theorem dX3_mark_44 : decode cX3_mark 44 = .ok (.iload_n 1, 1) := dk_27 (dk_at dksX3_mark_1 21 rfl rfl)
theorem dX3_mark_45 : decode cX3_mark 45 = .ok (.iadd, 1) := dk_96 (dk_at dksX3_mark_1 22 rfl rfl)
theorem dX3_mark_46 : decode cX3_mark 46 = .ok (.iaload, 1) := dk_46 (dk_at dksX3_mark_1 23 rfl rfl)
theorem dX3_mark_47 : decode cX3_mark 47 = .ok (.iconst (-1), 1) := dk_2 (dk_at dksX3_mark_2 0 rfl rfl)
theorem dX3_mark_48 : decode cX3_mark 48 = .ok (.if_icmp .ne 7, 3) := dk_160 0 7 (dk_at dksX3_mark_2 1 rfl rfl)
theorem dX3_mark_51 : decode cX3_mark 51 = .ok (.iconst 0, 1) := dk_3 (dk_at dksX3_mark_2 4 rfl rfl)
theorem dX3_mark_52 : decode cX3_mark 52 = .ok (.goto 15, 3) := dk_167 0 15 (dk_at dksX3_mark_2 5 rfl rfl)
theorem dX3_mark_55 : decode cX3_mark 55 = .ok (.aload_n 0, 1) := dk_42 (dk_at dksX3_mark_2 8 rfl rfl)
theorem dX3_mark_56 : decode cX3_mark 56 = .ok (.aload_n 0, 1) := dk_42 (dk_at dksX3_mark_2 9 rfl rfl)
theorem dX3_mark_57 : decode cX3_mark 57 = .ok (.getfield 13, 3) := dk_180 0 13 (dk_at dksX3_mark_2 10 rfl rfl)
theorem dX3_mark_60 : decode cX3_mark 60 = .ok (.iconst 5, 1) := dk_8 (dk_at dksX3_mark_2 13 rfl rfl)
theorem dX3_mark_61 : decode cX3_mark 61 = .ok (.iload_n 1, 1) := dk_27 (dk_at dksX3_mark_2 14 rfl rfl)
theorem dX3_mark_62 : decode cX3_mark 62 = .ok (.iadd, 1) := dk_96 (dk_at dksX3_mark_2 15 rfl rfl)
theorem dX3_mark_63 : decode cX3_mark 63 = .ok (.iaload, 1) := dk_46 (dk_at dksX3_mark_2 16 rfl rfl)
theorem dX3_mark_64 : decode cX3_mark 64 = .ok (.invokevirtual 192, 3) := dk_182 0 192 (dk_at dksX3_mark_2 17 rfl rfl)
theorem dX3_mark_67 : decode cX3_mark 67 = .ok (.istore_n 3, 1) := dk_62 (dk_at dksX3_mark_2 20 rfl rfl)
theorem dX3_mark_68 : decode cX3_mark 68 = .ok (.aload_n 0, 1) := dk_42 (dk_at dksX3_mark_2 21 rfl rfl)
theorem dX3_mark_69 : decode cX3_mark 69 = .ok (.getfield 13, 3) := dk_180 0 13 (dk_at dksX3_mark_3 0 rfl rfl)
theorem dX3_mark_72 : decode cX3_mark 72 = .ok (.iconst 5, 1) := dk_8 (dk_at dksX3_mark_3 3 rfl rfl)
theorem dX3_mark_73 : decode cX3_mark 73 = .ok (.iload_n 1, 1) := dk_27 (dk_at dksX3_mark_3 4 rfl rfl)
theorem dX3_mark_74 : decode cX3_mark 74 = .ok (.iadd, 1) := dk_96 (dk_at dksX3_mark_3 5 rfl rfl)
theorem dX3_mark_75 : decode cX3_mark 75 = .ok (.iload_n 2, 1) := dk_28 (dk_at dksX3_mark_3 6 rfl rfl)
theorem dX3_mark_76 : decode cX3_mark 76 = .ok (.ifCond .ne 7, 3) := dk_154 0 7 (dk_at dksX3_mark_3 7 rfl rfl)
theorem dX3_mark_79 : decode cX3_mark 79 = .ok (.iconst (-1), 1) := dk_2 (dk_at dksX3_mark_3 10 rfl rfl)
theorem dX3_mark_80 : decode cX3_mark 80 = .ok (.goto 9, 3) := dk_167 0 9 (dk_at dksX3_mark_3 11 rfl rfl)
theorem dX3_mark_83 : decode cX3_mark 83 = .ok (.aload_n 0, 1) := dk_42 (dk_at dksX3_mark_3 14 rfl rfl)
theorem dX3_mark_84 : decode cX3_mark 84 = .ok (.iload_n 2, 1) := dk_28 (dk_at dksX3_mark_3 15 rfl rfl)
theorem dX3_mark_85 : decode cX3_mark 85 = .ok (.iconst 0, 1) := dk_3 (dk_at dksX3_mark_3 16 rfl rfl)
theorem dX3_mark_86 : decode cX3_mark 86 = .ok (.invokevirtual 129, 3) := dk_182 0 129 (dk_at dksX3_mark_3 17 rfl rfl)
theorem dX3_mark_89 : decode cX3_mark 89 = .ok (.iastore, 1) := dk_79 (dk_at dksX3_mark_3 20 rfl rfl)
theorem dX3_mark_90 : decode cX3_mark 90 = .ok (.iload_n 3, 1) := dk_29 (dk_at dksX3_mark_3 21 rfl rfl)
theorem dX3_mark_91 : decode cX3_mark 91 = .ok (.ireturn, 1) := dk_172 (dk_at dksX3_mark_3 22 rfl rfl)
abbrev cX3_jump : ByteArray := prog_21_method_127_code
def yX3_jump : MethodName := ⟨RX3, "jump", "(I)I"⟩
def dkwX3_jump_1 : List UInt8 := [182, 0, 174, 42, 27, 182, 0, 177, 172]
abbrev dktX3_jump_1 : List UInt8 := dkwX3_jump_1 ++ []
def dkwX3_jump_0 : List UInt8 := [42, 42, 27, 182, 0, 167, 182, 0, 111, 154, 0, 5, 3, 172, 42, 182, 1, 38, 42, 27, 182, 1, 67, 42]
abbrev dktX3_jump_0 : List UInt8 := dkwX3_jump_0 ++ dktX3_jump_1
theorem dksX3_jump_0 : cX3_jump.data.toList.drop 0 = dktX3_jump_0 := by decide +kernel
theorem dksX3_jump_1 : cX3_jump.data.toList.drop 24 = dktX3_jump_1 := dk_seg dksX3_jump_0 24 rfl rfl
theorem dX3_jump_0 : decode cX3_jump 0 = .ok (.aload_n 0, 1) := dk_42 (dk_at dksX3_jump_0 0 rfl rfl)
theorem dX3_jump_1 : decode cX3_jump 1 = .ok (.aload_n 0, 1) := dk_42 (dk_at dksX3_jump_0 1 rfl rfl)
theorem dX3_jump_2 : decode cX3_jump 2 = .ok (.iload_n 1, 1) := dk_27 (dk_at dksX3_jump_0 2 rfl rfl)
theorem dX3_jump_3 : decode cX3_jump 3 = .ok (.invokevirtual 167, 3) := dk_182 0 167 (dk_at dksX3_jump_0 3 rfl rfl)
theorem dX3_jump_6 : decode cX3_jump 6 = .ok (.invokevirtual 111, 3) := dk_182 0 111 (dk_at dksX3_jump_0 6 rfl rfl)
theorem dX3_jump_9 : decode cX3_jump 9 = .ok (.ifCond .ne 5, 3) := dk_154 0 5 (dk_at dksX3_jump_0 9 rfl rfl)
theorem dX3_jump_12 : decode cX3_jump 12 = .ok (.iconst 0, 1) := dk_3 (dk_at dksX3_jump_0 12 rfl rfl)
theorem dX3_jump_13 : decode cX3_jump 13 = .ok (.ireturn, 1) := dk_172 (dk_at dksX3_jump_0 13 rfl rfl)
theorem dX3_jump_14 : decode cX3_jump 14 = .ok (.aload_n 0, 1) := dk_42 (dk_at dksX3_jump_0 14 rfl rfl)
theorem dX3_jump_15 : decode cX3_jump 15 = .ok (.invokevirtual 294, 3) := dk_182 1 38 (dk_at dksX3_jump_0 15 rfl rfl)
theorem dX3_jump_18 : decode cX3_jump 18 = .ok (.aload_n 0, 1) := dk_42 (dk_at dksX3_jump_0 18 rfl rfl)
theorem dX3_jump_19 : decode cX3_jump 19 = .ok (.iload_n 1, 1) := dk_27 (dk_at dksX3_jump_0 19 rfl rfl)
theorem dX3_jump_20 : decode cX3_jump 20 = .ok (.invokevirtual 323, 3) := dk_182 1 67 (dk_at dksX3_jump_0 20 rfl rfl)
theorem dX3_jump_23 : decode cX3_jump 23 = .ok (.aload_n 0, 1) := dk_42 (dk_at dksX3_jump_0 23 rfl rfl)
theorem dX3_jump_24 : decode cX3_jump 24 = .ok (.invokevirtual 174, 3) := dk_182 0 174 (dk_at dksX3_jump_1 0 rfl rfl)
theorem dX3_jump_27 : decode cX3_jump 27 = .ok (.aload_n 0, 1) := dk_42 (dk_at dksX3_jump_1 3 rfl rfl)
theorem dX3_jump_28 : decode cX3_jump 28 = .ok (.iload_n 1, 1) := dk_27 (dk_at dksX3_jump_1 4 rfl rfl)
theorem dX3_jump_29 : decode cX3_jump 29 = .ok (.invokevirtual 177, 3) := dk_182 0 177 (dk_at dksX3_jump_1 5 rfl rfl)
theorem dX3_jump_32 : decode cX3_jump 32 = .ok (.ireturn, 1) := dk_172 (dk_at dksX3_jump_1 8 rfl rfl)
abbrev cX3_jumpsTo : ByteArray := prog_21_method_126_code
def yX3_jumpsTo : MethodName := ⟨RX3, "jumpsTo", "(I)V"⟩
def dkwX3_jumpsTo_1 : List UInt8 := [182, 0, 129, 182, 1, 64, 177]
abbrev dktX3_jumpsTo_1 : List UInt8 := dkwX3_jumpsTo_1 ++ []
def dkwX3_jumpsTo_0 : List UInt8 := [42, 6, 16, 15, 42, 180, 0, 13, 5, 46, 182, 1, 61, 42, 180, 0, 13, 7, 3, 79, 42, 42, 27, 3]
abbrev dktX3_jumpsTo_0 : List UInt8 := dkwX3_jumpsTo_0 ++ dktX3_jumpsTo_1
theorem dksX3_jumpsTo_0 : cX3_jumpsTo.data.toList.drop 0 = dktX3_jumpsTo_0 := by decide +kernel
theorem dksX3_jumpsTo_1 : cX3_jumpsTo.data.toList.drop 24 = dktX3_jumpsTo_1 := dk_seg dksX3_jumpsTo_0 24 rfl rfl
theorem dX3_jumpsTo_0 : decode cX3_jumpsTo 0 = .ok (.aload_n 0, 1) := dk_42 (dk_at dksX3_jumpsTo_0 0 rfl rfl)
theorem dX3_jumpsTo_1 : decode cX3_jumpsTo 1 = .ok (.iconst 3, 1) := dk_6 (dk_at dksX3_jumpsTo_0 1 rfl rfl)
theorem dX3_jumpsTo_2 : decode cX3_jumpsTo 2 = .ok (.bipush 15, 2) := dk_16 15 (dk_at dksX3_jumpsTo_0 2 rfl rfl)
theorem dX3_jumpsTo_4 : decode cX3_jumpsTo 4 = .ok (.aload_n 0, 1) := dk_42 (dk_at dksX3_jumpsTo_0 4 rfl rfl)
theorem dX3_jumpsTo_5 : decode cX3_jumpsTo 5 = .ok (.getfield 13, 3) := dk_180 0 13 (dk_at dksX3_jumpsTo_0 5 rfl rfl)
theorem dX3_jumpsTo_8 : decode cX3_jumpsTo 8 = .ok (.iconst 2, 1) := dk_5 (dk_at dksX3_jumpsTo_0 8 rfl rfl)
theorem dX3_jumpsTo_9 : decode cX3_jumpsTo 9 = .ok (.iaload, 1) := dk_46 (dk_at dksX3_jumpsTo_0 9 rfl rfl)
theorem dX3_jumpsTo_10 : decode cX3_jumpsTo 10 = .ok (.invokevirtual 317, 3) := dk_182 1 61 (dk_at dksX3_jumpsTo_0 10 rfl rfl)
theorem dX3_jumpsTo_13 : decode cX3_jumpsTo 13 = .ok (.aload_n 0, 1) := dk_42 (dk_at dksX3_jumpsTo_0 13 rfl rfl)
theorem dX3_jumpsTo_14 : decode cX3_jumpsTo 14 = .ok (.getfield 13, 3) := dk_180 0 13 (dk_at dksX3_jumpsTo_0 14 rfl rfl)
theorem dX3_jumpsTo_17 : decode cX3_jumpsTo 17 = .ok (.iconst 4, 1) := dk_7 (dk_at dksX3_jumpsTo_0 17 rfl rfl)
theorem dX3_jumpsTo_18 : decode cX3_jumpsTo 18 = .ok (.iconst 0, 1) := dk_3 (dk_at dksX3_jumpsTo_0 18 rfl rfl)
theorem dX3_jumpsTo_19 : decode cX3_jumpsTo 19 = .ok (.iastore, 1) := dk_79 (dk_at dksX3_jumpsTo_0 19 rfl rfl)
theorem dX3_jumpsTo_20 : decode cX3_jumpsTo 20 = .ok (.aload_n 0, 1) := dk_42 (dk_at dksX3_jumpsTo_0 20 rfl rfl)
theorem dX3_jumpsTo_21 : decode cX3_jumpsTo 21 = .ok (.aload_n 0, 1) := dk_42 (dk_at dksX3_jumpsTo_0 21 rfl rfl)
theorem dX3_jumpsTo_22 : decode cX3_jumpsTo 22 = .ok (.iload_n 1, 1) := dk_27 (dk_at dksX3_jumpsTo_0 22 rfl rfl)
theorem dX3_jumpsTo_23 : decode cX3_jumpsTo 23 = .ok (.iconst 0, 1) := dk_3 (dk_at dksX3_jumpsTo_0 23 rfl rfl)
theorem dX3_jumpsTo_24 : decode cX3_jumpsTo 24 = .ok (.invokevirtual 129, 3) := dk_182 0 129 (dk_at dksX3_jumpsTo_1 0 rfl rfl)
theorem dX3_jumpsTo_27 : decode cX3_jumpsTo 27 = .ok (.invokevirtual 320, 3) := dk_182 1 64 (dk_at dksX3_jumpsTo_1 3 rfl rfl)
theorem dX3_jumpsTo_30 : decode cX3_jumpsTo 30 = .ok (.return_, 1) := dk_177 (dk_at dksX3_jumpsTo_1 6 rfl rfl)
abbrev cX3_puts : ByteArray := prog_21_method_124_code
def yX3_puts : MethodName := ⟨RX3, "puts", "(III)V"⟩
def dkwX3_puts_3 : List UInt8 := [96, 29, 79, 42, 180, 0, 13, 27, 92, 46, 4, 96, 79, 177]
abbrev dktX3_puts_3 : List UInt8 := dkwX3_puts_3 ++ []
def dkwX3_puts_2 : List UInt8 := [167, 255, 226, 42, 180, 0, 13, 27, 92, 46, 4, 100, 79, 42, 180, 0, 13, 28, 42, 180, 0, 13, 27, 46]
abbrev dktX3_puts_2 : List UInt8 := dkwX3_puts_2 ++ dktX3_puts_3
def dkwX3_puts_1 : List UInt8 := [180, 0, 13, 28, 21, 4, 96, 4, 100, 42, 180, 0, 13, 28, 21, 4, 96, 46, 79, 132, 4, 1]
abbrev dktX3_puts_1 : List UInt8 := dkwX3_puts_1 ++ dktX3_puts_2
def dkwX3_puts_0 : List UInt8 := [42, 180, 0, 13, 27, 46, 16, 10, 160, 0, 49, 4, 54, 4, 21, 4, 16, 10, 162, 0, 29, 42]
abbrev dktX3_puts_0 : List UInt8 := dkwX3_puts_0 ++ dktX3_puts_1
theorem dksX3_puts_0 : cX3_puts.data.toList.drop 0 = dktX3_puts_0 := by decide +kernel
theorem dksX3_puts_1 : cX3_puts.data.toList.drop 22 = dktX3_puts_1 := dk_seg dksX3_puts_0 22 rfl rfl
theorem dksX3_puts_2 : cX3_puts.data.toList.drop 44 = dktX3_puts_2 := dk_seg dksX3_puts_1 22 rfl rfl
theorem dksX3_puts_3 : cX3_puts.data.toList.drop 68 = dktX3_puts_3 := dk_seg dksX3_puts_2 24 rfl rfl
theorem dX3_puts_0 : decode cX3_puts 0 = .ok (.aload_n 0, 1) := dk_42 (dk_at dksX3_puts_0 0 rfl rfl)
theorem dX3_puts_1 : decode cX3_puts 1 = .ok (.getfield 13, 3) := dk_180 0 13 (dk_at dksX3_puts_0 1 rfl rfl)
theorem dX3_puts_4 : decode cX3_puts 4 = .ok (.iload_n 1, 1) := dk_27 (dk_at dksX3_puts_0 4 rfl rfl)
theorem dX3_puts_5 : decode cX3_puts 5 = .ok (.iaload, 1) := dk_46 (dk_at dksX3_puts_0 5 rfl rfl)
theorem dX3_puts_6 : decode cX3_puts 6 = .ok (.bipush 10, 2) := dk_16 10 (dk_at dksX3_puts_0 6 rfl rfl)
theorem dX3_puts_8 : decode cX3_puts 8 = .ok (.if_icmp .ne 49, 3) := dk_160 0 49 (dk_at dksX3_puts_0 8 rfl rfl)
theorem dX3_puts_11 : decode cX3_puts 11 = .ok (.iconst 1, 1) := dk_4 (dk_at dksX3_puts_0 11 rfl rfl)
theorem dX3_puts_12 : decode cX3_puts 12 = .ok (.istore 4, 2) := dk_54 4 (dk_at dksX3_puts_0 12 rfl rfl)
theorem dX3_puts_14 : decode cX3_puts 14 = .ok (.iload 4, 2) := dk_21 4 (dk_at dksX3_puts_0 14 rfl rfl)
theorem dX3_puts_16 : decode cX3_puts 16 = .ok (.bipush 10, 2) := dk_16 10 (dk_at dksX3_puts_0 16 rfl rfl)
theorem dX3_puts_18 : decode cX3_puts 18 = .ok (.if_icmp .ge 29, 3) := dk_162 0 29 (dk_at dksX3_puts_0 18 rfl rfl)
theorem dX3_puts_21 : decode cX3_puts 21 = .ok (.aload_n 0, 1) := dk_42 (dk_at dksX3_puts_0 21 rfl rfl)
theorem dX3_puts_22 : decode cX3_puts 22 = .ok (.getfield 13, 3) := dk_180 0 13 (dk_at dksX3_puts_1 0 rfl rfl)
theorem dX3_puts_25 : decode cX3_puts 25 = .ok (.iload_n 2, 1) := dk_28 (dk_at dksX3_puts_1 3 rfl rfl)
theorem dX3_puts_26 : decode cX3_puts 26 = .ok (.iload 4, 2) := dk_21 4 (dk_at dksX3_puts_1 4 rfl rfl)
theorem dX3_puts_28 : decode cX3_puts 28 = .ok (.iadd, 1) := dk_96 (dk_at dksX3_puts_1 6 rfl rfl)
theorem dX3_puts_29 : decode cX3_puts 29 = .ok (.iconst 1, 1) := dk_4 (dk_at dksX3_puts_1 7 rfl rfl)
theorem dX3_puts_30 : decode cX3_puts 30 = .ok (.isub, 1) := dk_100 (dk_at dksX3_puts_1 8 rfl rfl)
theorem dX3_puts_31 : decode cX3_puts 31 = .ok (.aload_n 0, 1) := dk_42 (dk_at dksX3_puts_1 9 rfl rfl)
theorem dX3_puts_32 : decode cX3_puts 32 = .ok (.getfield 13, 3) := dk_180 0 13 (dk_at dksX3_puts_1 10 rfl rfl)
theorem dX3_puts_35 : decode cX3_puts 35 = .ok (.iload_n 2, 1) := dk_28 (dk_at dksX3_puts_1 13 rfl rfl)
theorem dX3_puts_36 : decode cX3_puts 36 = .ok (.iload 4, 2) := dk_21 4 (dk_at dksX3_puts_1 14 rfl rfl)
theorem dX3_puts_38 : decode cX3_puts 38 = .ok (.iadd, 1) := dk_96 (dk_at dksX3_puts_1 16 rfl rfl)
theorem dX3_puts_39 : decode cX3_puts 39 = .ok (.iaload, 1) := dk_46 (dk_at dksX3_puts_1 17 rfl rfl)
theorem dX3_puts_40 : decode cX3_puts 40 = .ok (.iastore, 1) := dk_79 (dk_at dksX3_puts_1 18 rfl rfl)
theorem dX3_puts_41 : decode cX3_puts 41 = .ok (.iinc 4 1, 3) := dk_132 4 1 (dk_at dksX3_puts_1 19 rfl rfl)
theorem dX3_puts_44 : decode cX3_puts 44 = .ok (.goto (-30), 3) := dk_167 255 226 (dk_at dksX3_puts_2 0 rfl rfl)
theorem dX3_puts_47 : decode cX3_puts 47 = .ok (.aload_n 0, 1) := dk_42 (dk_at dksX3_puts_2 3 rfl rfl)
theorem dX3_puts_48 : decode cX3_puts 48 = .ok (.getfield 13, 3) := dk_180 0 13 (dk_at dksX3_puts_2 4 rfl rfl)
theorem dX3_puts_51 : decode cX3_puts 51 = .ok (.iload_n 1, 1) := dk_27 (dk_at dksX3_puts_2 7 rfl rfl)
theorem dX3_puts_52 : decode cX3_puts 52 = .ok (.dup2, 1) := dk_92 (dk_at dksX3_puts_2 8 rfl rfl)
theorem dX3_puts_53 : decode cX3_puts 53 = .ok (.iaload, 1) := dk_46 (dk_at dksX3_puts_2 9 rfl rfl)
theorem dX3_puts_54 : decode cX3_puts 54 = .ok (.iconst 1, 1) := dk_4 (dk_at dksX3_puts_2 10 rfl rfl)
theorem dX3_puts_55 : decode cX3_puts 55 = .ok (.isub, 1) := dk_100 (dk_at dksX3_puts_2 11 rfl rfl)
theorem dX3_puts_56 : decode cX3_puts 56 = .ok (.iastore, 1) := dk_79 (dk_at dksX3_puts_2 12 rfl rfl)
theorem dX3_puts_57 : decode cX3_puts 57 = .ok (.aload_n 0, 1) := dk_42 (dk_at dksX3_puts_2 13 rfl rfl)
theorem dX3_puts_58 : decode cX3_puts 58 = .ok (.getfield 13, 3) := dk_180 0 13 (dk_at dksX3_puts_2 14 rfl rfl)
theorem dX3_puts_61 : decode cX3_puts 61 = .ok (.iload_n 2, 1) := dk_28 (dk_at dksX3_puts_2 17 rfl rfl)
theorem dX3_puts_62 : decode cX3_puts 62 = .ok (.aload_n 0, 1) := dk_42 (dk_at dksX3_puts_2 18 rfl rfl)
theorem dX3_puts_63 : decode cX3_puts 63 = .ok (.getfield 13, 3) := dk_180 0 13 (dk_at dksX3_puts_2 19 rfl rfl)
theorem dX3_puts_66 : decode cX3_puts 66 = .ok (.iload_n 1, 1) := dk_27 (dk_at dksX3_puts_2 22 rfl rfl)
theorem dX3_puts_67 : decode cX3_puts 67 = .ok (.iaload, 1) := dk_46 (dk_at dksX3_puts_2 23 rfl rfl)
theorem dX3_puts_68 : decode cX3_puts 68 = .ok (.iadd, 1) := dk_96 (dk_at dksX3_puts_3 0 rfl rfl)
theorem dX3_puts_69 : decode cX3_puts 69 = .ok (.iload_n 3, 1) := dk_29 (dk_at dksX3_puts_3 1 rfl rfl)
theorem dX3_puts_70 : decode cX3_puts 70 = .ok (.iastore, 1) := dk_79 (dk_at dksX3_puts_3 2 rfl rfl)
theorem dX3_puts_71 : decode cX3_puts 71 = .ok (.aload_n 0, 1) := dk_42 (dk_at dksX3_puts_3 3 rfl rfl)
theorem dX3_puts_72 : decode cX3_puts 72 = .ok (.getfield 13, 3) := dk_180 0 13 (dk_at dksX3_puts_3 4 rfl rfl)
theorem dX3_puts_75 : decode cX3_puts 75 = .ok (.iload_n 1, 1) := dk_27 (dk_at dksX3_puts_3 7 rfl rfl)
theorem dX3_puts_76 : decode cX3_puts 76 = .ok (.dup2, 1) := dk_92 (dk_at dksX3_puts_3 8 rfl rfl)
theorem dX3_puts_77 : decode cX3_puts 77 = .ok (.iaload, 1) := dk_46 (dk_at dksX3_puts_3 9 rfl rfl)
theorem dX3_puts_78 : decode cX3_puts 78 = .ok (.iconst 1, 1) := dk_4 (dk_at dksX3_puts_3 10 rfl rfl)
theorem dX3_puts_79 : decode cX3_puts 79 = .ok (.iadd, 1) := dk_96 (dk_at dksX3_puts_3 11 rfl rfl)
theorem dX3_puts_80 : decode cX3_puts 80 = .ok (.iastore, 1) := dk_79 (dk_at dksX3_puts_3 12 rfl rfl)
theorem dX3_puts_81 : decode cX3_puts 81 = .ok (.return_, 1) := dk_177 (dk_at dksX3_puts_3 13 rfl rfl)
abbrev cX3_comesTo : ByteArray := prog_21_method_125_code
def yX3_comesTo : MethodName := ⟨RX3, "comesTo", "(I)V"⟩
def dkwX3_comesTo_0 : List UInt8 := [42, 180, 0, 13, 5, 27, 79, 42, 42, 27, 182, 0, 192, 182, 1, 10, 61, 177]
abbrev dktX3_comesTo_0 : List UInt8 := dkwX3_comesTo_0 ++ []
theorem dksX3_comesTo_0 : cX3_comesTo.data.toList.drop 0 = dktX3_comesTo_0 := by decide +kernel
theorem dX3_comesTo_0 : decode cX3_comesTo 0 = .ok (.aload_n 0, 1) := dk_42 (dk_at dksX3_comesTo_0 0 rfl rfl)
theorem dX3_comesTo_1 : decode cX3_comesTo 1 = .ok (.getfield 13, 3) := dk_180 0 13 (dk_at dksX3_comesTo_0 1 rfl rfl)
theorem dX3_comesTo_4 : decode cX3_comesTo 4 = .ok (.iconst 2, 1) := dk_5 (dk_at dksX3_comesTo_0 4 rfl rfl)
theorem dX3_comesTo_5 : decode cX3_comesTo 5 = .ok (.iload_n 1, 1) := dk_27 (dk_at dksX3_comesTo_0 5 rfl rfl)
theorem dX3_comesTo_6 : decode cX3_comesTo 6 = .ok (.iastore, 1) := dk_79 (dk_at dksX3_comesTo_0 6 rfl rfl)
theorem dX3_comesTo_7 : decode cX3_comesTo 7 = .ok (.aload_n 0, 1) := dk_42 (dk_at dksX3_comesTo_0 7 rfl rfl)
theorem dX3_comesTo_8 : decode cX3_comesTo 8 = .ok (.aload_n 0, 1) := dk_42 (dk_at dksX3_comesTo_0 8 rfl rfl)
theorem dX3_comesTo_9 : decode cX3_comesTo 9 = .ok (.iload_n 1, 1) := dk_27 (dk_at dksX3_comesTo_0 9 rfl rfl)
theorem dX3_comesTo_10 : decode cX3_comesTo 10 = .ok (.invokevirtual 192, 3) := dk_182 0 192 (dk_at dksX3_comesTo_0 10 rfl rfl)
theorem dX3_comesTo_13 : decode cX3_comesTo 13 = .ok (.invokevirtual 266, 3) := dk_182 1 10 (dk_at dksX3_comesTo_0 13 rfl rfl)
theorem dX3_comesTo_16 : decode cX3_comesTo 16 = .ok (.istore_n 2, 1) := dk_61 (dk_at dksX3_comesTo_0 16 rfl rfl)
theorem dX3_comesTo_17 : decode cX3_comesTo 17 = .ok (.return_, 1) := dk_177 (dk_at dksX3_comesTo_0 17 rfl rfl)
abbrev cX3_follow : ByteArray := prog_21_method_128_code
def yX3_follow : MethodName := ⟨RX3, "follow", "()I"⟩
def dkwX3_follow_1 : List UInt8 := [4, 167, 0, 4, 3, 182, 0, 111, 154, 0, 5, 3, 172, 42, 182, 1, 38, 42, 28, 182, 1, 67, 28, 172]
abbrev dktX3_follow_1 : List UInt8 := dkwX3_follow_1 ++ []
def dkwX3_follow_0 : List UInt8 := [42, 182, 1, 4, 60, 27, 154, 0, 7, 3, 167, 0, 8, 42, 27, 182, 1, 1, 61, 42, 28, 158, 0, 7]
abbrev dktX3_follow_0 : List UInt8 := dkwX3_follow_0 ++ dktX3_follow_1
theorem dksX3_follow_0 : cX3_follow.data.toList.drop 0 = dktX3_follow_0 := by decide +kernel
theorem dksX3_follow_1 : cX3_follow.data.toList.drop 24 = dktX3_follow_1 := dk_seg dksX3_follow_0 24 rfl rfl
theorem dX3_follow_0 : decode cX3_follow 0 = .ok (.aload_n 0, 1) := dk_42 (dk_at dksX3_follow_0 0 rfl rfl)
theorem dX3_follow_1 : decode cX3_follow 1 = .ok (.invokevirtual 260, 3) := dk_182 1 4 (dk_at dksX3_follow_0 1 rfl rfl)
theorem dX3_follow_4 : decode cX3_follow 4 = .ok (.istore_n 1, 1) := dk_60 (dk_at dksX3_follow_0 4 rfl rfl)
theorem dX3_follow_5 : decode cX3_follow 5 = .ok (.iload_n 1, 1) := dk_27 (dk_at dksX3_follow_0 5 rfl rfl)
theorem dX3_follow_6 : decode cX3_follow 6 = .ok (.ifCond .ne 7, 3) := dk_154 0 7 (dk_at dksX3_follow_0 6 rfl rfl)
theorem dX3_follow_9 : decode cX3_follow 9 = .ok (.iconst 0, 1) := dk_3 (dk_at dksX3_follow_0 9 rfl rfl)
theorem dX3_follow_10 : decode cX3_follow 10 = .ok (.goto 8, 3) := dk_167 0 8 (dk_at dksX3_follow_0 10 rfl rfl)
theorem dX3_follow_13 : decode cX3_follow 13 = .ok (.aload_n 0, 1) := dk_42 (dk_at dksX3_follow_0 13 rfl rfl)
theorem dX3_follow_14 : decode cX3_follow 14 = .ok (.iload_n 1, 1) := dk_27 (dk_at dksX3_follow_0 14 rfl rfl)
theorem dX3_follow_15 : decode cX3_follow 15 = .ok (.invokevirtual 257, 3) := dk_182 1 1 (dk_at dksX3_follow_0 15 rfl rfl)
theorem dX3_follow_18 : decode cX3_follow 18 = .ok (.istore_n 2, 1) := dk_61 (dk_at dksX3_follow_0 18 rfl rfl)
theorem dX3_follow_19 : decode cX3_follow 19 = .ok (.aload_n 0, 1) := dk_42 (dk_at dksX3_follow_0 19 rfl rfl)
theorem dX3_follow_20 : decode cX3_follow 20 = .ok (.iload_n 2, 1) := dk_28 (dk_at dksX3_follow_0 20 rfl rfl)
theorem dX3_follow_21 : decode cX3_follow 21 = .ok (.ifCond .le 7, 3) := dk_158 0 7 (dk_at dksX3_follow_0 21 rfl rfl)
theorem dX3_follow_24 : decode cX3_follow 24 = .ok (.iconst 1, 1) := dk_4 (dk_at dksX3_follow_1 0 rfl rfl)
theorem dX3_follow_25 : decode cX3_follow 25 = .ok (.goto 4, 3) := dk_167 0 4 (dk_at dksX3_follow_1 1 rfl rfl)
theorem dX3_follow_28 : decode cX3_follow 28 = .ok (.iconst 0, 1) := dk_3 (dk_at dksX3_follow_1 4 rfl rfl)
theorem dX3_follow_29 : decode cX3_follow 29 = .ok (.invokevirtual 111, 3) := dk_182 0 111 (dk_at dksX3_follow_1 5 rfl rfl)
theorem dX3_follow_32 : decode cX3_follow 32 = .ok (.ifCond .ne 5, 3) := dk_154 0 5 (dk_at dksX3_follow_1 8 rfl rfl)
theorem dX3_follow_35 : decode cX3_follow 35 = .ok (.iconst 0, 1) := dk_3 (dk_at dksX3_follow_1 11 rfl rfl)
theorem dX3_follow_36 : decode cX3_follow 36 = .ok (.ireturn, 1) := dk_172 (dk_at dksX3_follow_1 12 rfl rfl)
theorem dX3_follow_37 : decode cX3_follow 37 = .ok (.aload_n 0, 1) := dk_42 (dk_at dksX3_follow_1 13 rfl rfl)
theorem dX3_follow_38 : decode cX3_follow 38 = .ok (.invokevirtual 294, 3) := dk_182 1 38 (dk_at dksX3_follow_1 14 rfl rfl)
theorem dX3_follow_41 : decode cX3_follow 41 = .ok (.aload_n 0, 1) := dk_42 (dk_at dksX3_follow_1 17 rfl rfl)
theorem dX3_follow_42 : decode cX3_follow 42 = .ok (.iload_n 2, 1) := dk_28 (dk_at dksX3_follow_1 18 rfl rfl)
theorem dX3_follow_43 : decode cX3_follow 43 = .ok (.invokevirtual 323, 3) := dk_182 1 67 (dk_at dksX3_follow_1 19 rfl rfl)
theorem dX3_follow_46 : decode cX3_follow 46 = .ok (.iload_n 2, 1) := dk_28 (dk_at dksX3_follow_1 22 rfl rfl)
theorem dX3_follow_47 : decode cX3_follow 47 = .ok (.ireturn, 1) := dk_172 (dk_at dksX3_follow_1 23 rfl rfl)
abbrev cX3_back : ByteArray := prog_21_method_130_code
def yX3_back : MethodName := ⟨RX3, "back", "()I"⟩
def dkwX3_back_0 : List UInt8 := [42, 6, 16, 15, 7, 16, 25, 182, 1, 70, 172]
abbrev dktX3_back_0 : List UInt8 := dkwX3_back_0 ++ []
theorem dksX3_back_0 : cX3_back.data.toList.drop 0 = dktX3_back_0 := by decide +kernel
theorem dX3_back_0 : decode cX3_back 0 = .ok (.aload_n 0, 1) := dk_42 (dk_at dksX3_back_0 0 rfl rfl)
theorem dX3_back_1 : decode cX3_back 1 = .ok (.iconst 3, 1) := dk_6 (dk_at dksX3_back_0 1 rfl rfl)
theorem dX3_back_2 : decode cX3_back 2 = .ok (.bipush 15, 2) := dk_16 15 (dk_at dksX3_back_0 2 rfl rfl)
theorem dX3_back_4 : decode cX3_back 4 = .ok (.iconst 4, 1) := dk_7 (dk_at dksX3_back_0 4 rfl rfl)
theorem dX3_back_5 : decode cX3_back 5 = .ok (.bipush 25, 2) := dk_16 25 (dk_at dksX3_back_0 5 rfl rfl)
theorem dX3_back_7 : decode cX3_back 7 = .ok (.invokevirtual 326, 3) := dk_182 1 70 (dk_at dksX3_back_0 7 rfl rfl)
theorem dX3_back_10 : decode cX3_back 10 = .ok (.ireturn, 1) := dk_172 (dk_at dksX3_back_0 10 rfl rfl)
abbrev cX3_takes : ByteArray := prog_21_method_129_code
def yX3_takes : MethodName := ⟨RX3, "takes", "(IIII)I"⟩
def dkwX3_takes_2 : List UInt8 := [100, 79, 42, 42, 180, 0, 13, 28, 42, 180, 0, 13, 27, 46, 96, 46, 182, 1, 64, 42, 182, 1, 4, 172]
abbrev dktX3_takes_2 : List UInt8 := dkwX3_takes_2 ++ []
def dkwX3_takes_1 : List UInt8 := [182, 1, 38, 42, 29, 21, 4, 42, 180, 0, 13, 5, 46, 182, 1, 61, 42, 180, 0, 13, 27, 92, 46, 4]
abbrev dktX3_takes_1 : List UInt8 := dkwX3_takes_1 ++ dktX3_takes_2
def dkwX3_takes_0 : List UInt8 := [42, 42, 180, 0, 13, 27, 46, 158, 0, 7, 4, 167, 0, 4, 3, 182, 0, 111, 154, 0, 5, 3, 172, 42]
abbrev dktX3_takes_0 : List UInt8 := dkwX3_takes_0 ++ dktX3_takes_1
theorem dksX3_takes_0 : cX3_takes.data.toList.drop 0 = dktX3_takes_0 := by decide +kernel
theorem dksX3_takes_1 : cX3_takes.data.toList.drop 24 = dktX3_takes_1 := dk_seg dksX3_takes_0 24 rfl rfl
theorem dksX3_takes_2 : cX3_takes.data.toList.drop 48 = dktX3_takes_2 := dk_seg dksX3_takes_1 24 rfl rfl
theorem dX3_takes_0 : decode cX3_takes 0 = .ok (.aload_n 0, 1) := dk_42 (dk_at dksX3_takes_0 0 rfl rfl)
theorem dX3_takes_1 : decode cX3_takes 1 = .ok (.aload_n 0, 1) := dk_42 (dk_at dksX3_takes_0 1 rfl rfl)
theorem dX3_takes_2 : decode cX3_takes 2 = .ok (.getfield 13, 3) := dk_180 0 13 (dk_at dksX3_takes_0 2 rfl rfl)
theorem dX3_takes_5 : decode cX3_takes 5 = .ok (.iload_n 1, 1) := dk_27 (dk_at dksX3_takes_0 5 rfl rfl)
theorem dX3_takes_6 : decode cX3_takes 6 = .ok (.iaload, 1) := dk_46 (dk_at dksX3_takes_0 6 rfl rfl)
theorem dX3_takes_7 : decode cX3_takes 7 = .ok (.ifCond .le 7, 3) := dk_158 0 7 (dk_at dksX3_takes_0 7 rfl rfl)
theorem dX3_takes_10 : decode cX3_takes 10 = .ok (.iconst 1, 1) := dk_4 (dk_at dksX3_takes_0 10 rfl rfl)
theorem dX3_takes_11 : decode cX3_takes 11 = .ok (.goto 4, 3) := dk_167 0 4 (dk_at dksX3_takes_0 11 rfl rfl)
theorem dX3_takes_14 : decode cX3_takes 14 = .ok (.iconst 0, 1) := dk_3 (dk_at dksX3_takes_0 14 rfl rfl)
theorem dX3_takes_15 : decode cX3_takes 15 = .ok (.invokevirtual 111, 3) := dk_182 0 111 (dk_at dksX3_takes_0 15 rfl rfl)
theorem dX3_takes_18 : decode cX3_takes 18 = .ok (.ifCond .ne 5, 3) := dk_154 0 5 (dk_at dksX3_takes_0 18 rfl rfl)
theorem dX3_takes_21 : decode cX3_takes 21 = .ok (.iconst 0, 1) := dk_3 (dk_at dksX3_takes_0 21 rfl rfl)
theorem dX3_takes_22 : decode cX3_takes 22 = .ok (.ireturn, 1) := dk_172 (dk_at dksX3_takes_0 22 rfl rfl)
theorem dX3_takes_23 : decode cX3_takes 23 = .ok (.aload_n 0, 1) := dk_42 (dk_at dksX3_takes_0 23 rfl rfl)
theorem dX3_takes_24 : decode cX3_takes 24 = .ok (.invokevirtual 294, 3) := dk_182 1 38 (dk_at dksX3_takes_1 0 rfl rfl)
theorem dX3_takes_27 : decode cX3_takes 27 = .ok (.aload_n 0, 1) := dk_42 (dk_at dksX3_takes_1 3 rfl rfl)
theorem dX3_takes_28 : decode cX3_takes 28 = .ok (.iload_n 3, 1) := dk_29 (dk_at dksX3_takes_1 4 rfl rfl)
theorem dX3_takes_29 : decode cX3_takes 29 = .ok (.iload 4, 2) := dk_21 4 (dk_at dksX3_takes_1 5 rfl rfl)
theorem dX3_takes_31 : decode cX3_takes 31 = .ok (.aload_n 0, 1) := dk_42 (dk_at dksX3_takes_1 7 rfl rfl)
theorem dX3_takes_32 : decode cX3_takes 32 = .ok (.getfield 13, 3) := dk_180 0 13 (dk_at dksX3_takes_1 8 rfl rfl)
theorem dX3_takes_35 : decode cX3_takes 35 = .ok (.iconst 2, 1) := dk_5 (dk_at dksX3_takes_1 11 rfl rfl)
theorem dX3_takes_36 : decode cX3_takes 36 = .ok (.iaload, 1) := dk_46 (dk_at dksX3_takes_1 12 rfl rfl)
theorem dX3_takes_37 : decode cX3_takes 37 = .ok (.invokevirtual 317, 3) := dk_182 1 61 (dk_at dksX3_takes_1 13 rfl rfl)
theorem dX3_takes_40 : decode cX3_takes 40 = .ok (.aload_n 0, 1) := dk_42 (dk_at dksX3_takes_1 16 rfl rfl)
theorem dX3_takes_41 : decode cX3_takes 41 = .ok (.getfield 13, 3) := dk_180 0 13 (dk_at dksX3_takes_1 17 rfl rfl)
theorem dX3_takes_44 : decode cX3_takes 44 = .ok (.iload_n 1, 1) := dk_27 (dk_at dksX3_takes_1 20 rfl rfl)
theorem dX3_takes_45 : decode cX3_takes 45 = .ok (.dup2, 1) := dk_92 (dk_at dksX3_takes_1 21 rfl rfl)
theorem dX3_takes_46 : decode cX3_takes 46 = .ok (.iaload, 1) := dk_46 (dk_at dksX3_takes_1 22 rfl rfl)
theorem dX3_takes_47 : decode cX3_takes 47 = .ok (.iconst 1, 1) := dk_4 (dk_at dksX3_takes_1 23 rfl rfl)
theorem dX3_takes_48 : decode cX3_takes 48 = .ok (.isub, 1) := dk_100 (dk_at dksX3_takes_2 0 rfl rfl)
theorem dX3_takes_49 : decode cX3_takes 49 = .ok (.iastore, 1) := dk_79 (dk_at dksX3_takes_2 1 rfl rfl)
theorem dX3_takes_50 : decode cX3_takes 50 = .ok (.aload_n 0, 1) := dk_42 (dk_at dksX3_takes_2 2 rfl rfl)
theorem dX3_takes_51 : decode cX3_takes 51 = .ok (.aload_n 0, 1) := dk_42 (dk_at dksX3_takes_2 3 rfl rfl)
theorem dX3_takes_52 : decode cX3_takes 52 = .ok (.getfield 13, 3) := dk_180 0 13 (dk_at dksX3_takes_2 4 rfl rfl)
theorem dX3_takes_55 : decode cX3_takes 55 = .ok (.iload_n 2, 1) := dk_28 (dk_at dksX3_takes_2 7 rfl rfl)
theorem dX3_takes_56 : decode cX3_takes 56 = .ok (.aload_n 0, 1) := dk_42 (dk_at dksX3_takes_2 8 rfl rfl)
theorem dX3_takes_57 : decode cX3_takes 57 = .ok (.getfield 13, 3) := dk_180 0 13 (dk_at dksX3_takes_2 9 rfl rfl)
theorem dX3_takes_60 : decode cX3_takes 60 = .ok (.iload_n 1, 1) := dk_27 (dk_at dksX3_takes_2 12 rfl rfl)
theorem dX3_takes_61 : decode cX3_takes 61 = .ok (.iaload, 1) := dk_46 (dk_at dksX3_takes_2 13 rfl rfl)
theorem dX3_takes_62 : decode cX3_takes 62 = .ok (.iadd, 1) := dk_96 (dk_at dksX3_takes_2 14 rfl rfl)
theorem dX3_takes_63 : decode cX3_takes 63 = .ok (.iaload, 1) := dk_46 (dk_at dksX3_takes_2 15 rfl rfl)
theorem dX3_takes_64 : decode cX3_takes 64 = .ok (.invokevirtual 320, 3) := dk_182 1 64 (dk_at dksX3_takes_2 16 rfl rfl)
theorem dX3_takes_67 : decode cX3_takes 67 = .ok (.aload_n 0, 1) := dk_42 (dk_at dksX3_takes_2 19 rfl rfl)
theorem dX3_takes_68 : decode cX3_takes 68 = .ok (.invokevirtual 260, 3) := dk_182 1 4 (dk_at dksX3_takes_2 20 rfl rfl)
theorem dX3_takes_71 : decode cX3_takes 71 = .ok (.ireturn, 1) := dk_172 (dk_at dksX3_takes_2 23 rfl rfl)
abbrev cX3_forward : ByteArray := prog_21_method_131_code
def yX3_forward : MethodName := ⟨RX3, "forward", "()I"⟩
def dkwX3_forward_0 : List UInt8 := [42, 7, 16, 25, 6, 16, 15, 182, 1, 70, 172]
abbrev dktX3_forward_0 : List UInt8 := dkwX3_forward_0 ++ []
theorem dksX3_forward_0 : cX3_forward.data.toList.drop 0 = dktX3_forward_0 := by decide +kernel
theorem dX3_forward_0 : decode cX3_forward 0 = .ok (.aload_n 0, 1) := dk_42 (dk_at dksX3_forward_0 0 rfl rfl)
theorem dX3_forward_1 : decode cX3_forward 1 = .ok (.iconst 4, 1) := dk_7 (dk_at dksX3_forward_0 1 rfl rfl)
theorem dX3_forward_2 : decode cX3_forward 2 = .ok (.bipush 25, 2) := dk_16 25 (dk_at dksX3_forward_0 2 rfl rfl)
theorem dX3_forward_4 : decode cX3_forward 4 = .ok (.iconst 3, 1) := dk_6 (dk_at dksX3_forward_0 4 rfl rfl)
theorem dX3_forward_5 : decode cX3_forward 5 = .ok (.bipush 15, 2) := dk_16 15 (dk_at dksX3_forward_0 5 rfl rfl)
theorem dX3_forward_7 : decode cX3_forward 7 = .ok (.invokevirtual 326, 3) := dk_182 1 70 (dk_at dksX3_forward_0 7 rfl rfl)
theorem dX3_forward_10 : decode cX3_forward 10 = .ok (.ireturn, 1) := dk_172 (dk_at dksX3_forward_0 10 rfl rfl)
abbrev cX3_undo : ByteArray := prog_21_method_132_code
def yX3_undo : MethodName := ⟨RX3, "undo", "()I"⟩
def dkwX3_undo_2 : List UInt8 := [3, 184, 0, 115, 42, 180, 0, 122, 172]
abbrev dktX3_undo_2 : List UInt8 := dkwX3_undo_2 ++ []
def dkwX3_undo_1 : List UInt8 := [180, 0, 122, 4, 100, 181, 0, 122, 42, 180, 0, 20, 42, 180, 0, 122, 17, 8, 147, 104, 42, 180, 0, 13]
abbrev dktX3_undo_1 : List UInt8 := dkwX3_undo_1 ++ dktX3_undo_2
def dkwX3_undo_0 : List UInt8 := [42, 42, 180, 0, 122, 158, 0, 7, 4, 167, 0, 4, 3, 182, 0, 111, 154, 0, 5, 3, 172, 42, 89]
abbrev dktX3_undo_0 : List UInt8 := dkwX3_undo_0 ++ dktX3_undo_1
theorem dksX3_undo_0 : cX3_undo.data.toList.drop 0 = dktX3_undo_0 := by decide +kernel
theorem dksX3_undo_1 : cX3_undo.data.toList.drop 23 = dktX3_undo_1 := dk_seg dksX3_undo_0 23 rfl rfl
theorem dksX3_undo_2 : cX3_undo.data.toList.drop 47 = dktX3_undo_2 := dk_seg dksX3_undo_1 24 rfl rfl
theorem dX3_undo_0 : decode cX3_undo 0 = .ok (.aload_n 0, 1) := dk_42 (dk_at dksX3_undo_0 0 rfl rfl)
theorem dX3_undo_1 : decode cX3_undo 1 = .ok (.aload_n 0, 1) := dk_42 (dk_at dksX3_undo_0 1 rfl rfl)
theorem dX3_undo_2 : decode cX3_undo 2 = .ok (.getfield 122, 3) := dk_180 0 122 (dk_at dksX3_undo_0 2 rfl rfl)
theorem dX3_undo_5 : decode cX3_undo 5 = .ok (.ifCond .le 7, 3) := dk_158 0 7 (dk_at dksX3_undo_0 5 rfl rfl)
theorem dX3_undo_8 : decode cX3_undo 8 = .ok (.iconst 1, 1) := dk_4 (dk_at dksX3_undo_0 8 rfl rfl)
theorem dX3_undo_9 : decode cX3_undo 9 = .ok (.goto 4, 3) := dk_167 0 4 (dk_at dksX3_undo_0 9 rfl rfl)
theorem dX3_undo_12 : decode cX3_undo 12 = .ok (.iconst 0, 1) := dk_3 (dk_at dksX3_undo_0 12 rfl rfl)
theorem dX3_undo_13 : decode cX3_undo 13 = .ok (.invokevirtual 111, 3) := dk_182 0 111 (dk_at dksX3_undo_0 13 rfl rfl)
theorem dX3_undo_16 : decode cX3_undo 16 = .ok (.ifCond .ne 5, 3) := dk_154 0 5 (dk_at dksX3_undo_0 16 rfl rfl)
theorem dX3_undo_19 : decode cX3_undo 19 = .ok (.iconst 0, 1) := dk_3 (dk_at dksX3_undo_0 19 rfl rfl)
theorem dX3_undo_20 : decode cX3_undo 20 = .ok (.ireturn, 1) := dk_172 (dk_at dksX3_undo_0 20 rfl rfl)
theorem dX3_undo_21 : decode cX3_undo 21 = .ok (.aload_n 0, 1) := dk_42 (dk_at dksX3_undo_0 21 rfl rfl)
theorem dX3_undo_22 : decode cX3_undo 22 = .ok (.dup, 1) := dk_89 (dk_at dksX3_undo_0 22 rfl rfl)
theorem dX3_undo_23 : decode cX3_undo 23 = .ok (.getfield 122, 3) := dk_180 0 122 (dk_at dksX3_undo_1 0 rfl rfl)
theorem dX3_undo_26 : decode cX3_undo 26 = .ok (.iconst 1, 1) := dk_4 (dk_at dksX3_undo_1 3 rfl rfl)
theorem dX3_undo_27 : decode cX3_undo 27 = .ok (.isub, 1) := dk_100 (dk_at dksX3_undo_1 4 rfl rfl)
theorem dX3_undo_28 : decode cX3_undo 28 = .ok (.putfield 122, 3) := dk_181 0 122 (dk_at dksX3_undo_1 5 rfl rfl)
theorem dX3_undo_31 : decode cX3_undo 31 = .ok (.aload_n 0, 1) := dk_42 (dk_at dksX3_undo_1 8 rfl rfl)
theorem dX3_undo_32 : decode cX3_undo 32 = .ok (.getfield 20, 3) := dk_180 0 20 (dk_at dksX3_undo_1 9 rfl rfl)
theorem dX3_undo_35 : decode cX3_undo 35 = .ok (.aload_n 0, 1) := dk_42 (dk_at dksX3_undo_1 12 rfl rfl)
theorem dX3_undo_36 : decode cX3_undo 36 = .ok (.getfield 122, 3) := dk_180 0 122 (dk_at dksX3_undo_1 13 rfl rfl)
theorem dX3_undo_39 : decode cX3_undo 39 = .ok (.sipush 2195, 3) := dk_17 8 147 (dk_at dksX3_undo_1 16 rfl rfl)
theorem dX3_undo_42 : decode cX3_undo 42 = .ok (.imul, 1) := dk_104 (dk_at dksX3_undo_1 19 rfl rfl)
theorem dX3_undo_43 : decode cX3_undo 43 = .ok (.aload_n 0, 1) := dk_42 (dk_at dksX3_undo_1 20 rfl rfl)
theorem dX3_undo_44 : decode cX3_undo 44 = .ok (.getfield 13, 3) := dk_180 0 13 (dk_at dksX3_undo_1 21 rfl rfl)
theorem dX3_undo_47 : decode cX3_undo 47 = .ok (.iconst 0, 1) := dk_3 (dk_at dksX3_undo_2 0 rfl rfl)
theorem dX3_undo_48 : decode cX3_undo 48 = .ok (.invokestatic 115, 3) := dk_184 0 115 (dk_at dksX3_undo_2 1 rfl rfl)
theorem dX3_undo_51 : decode cX3_undo 51 = .ok (.aload_n 0, 1) := dk_42 (dk_at dksX3_undo_2 4 rfl rfl)
theorem dX3_undo_52 : decode cX3_undo 52 = .ok (.getfield 122, 3) := dk_180 0 122 (dk_at dksX3_undo_2 5 rfl rfl)
theorem dX3_undo_55 : decode cX3_undo 55 = .ok (.ireturn, 1) := dk_172 (dk_at dksX3_undo_2 8 rfl rfl)
abbrev cX3_undoable : ByteArray := prog_21_method_133_code
def yX3_undoable : MethodName := ⟨RX3, "undoable", "()I"⟩
def dkwX3_undoable_0 : List UInt8 := [42, 3, 181, 0, 1, 42, 180, 0, 122, 172]
abbrev dktX3_undoable_0 : List UInt8 := dkwX3_undoable_0 ++ []
theorem dksX3_undoable_0 : cX3_undoable.data.toList.drop 0 = dktX3_undoable_0 := by decide +kernel
theorem dX3_undoable_0 : decode cX3_undoable 0 = .ok (.aload_n 0, 1) := dk_42 (dk_at dksX3_undoable_0 0 rfl rfl)
theorem dX3_undoable_1 : decode cX3_undoable 1 = .ok (.iconst 0, 1) := dk_3 (dk_at dksX3_undoable_0 1 rfl rfl)
theorem dX3_undoable_2 : decode cX3_undoable 2 = .ok (.putfield 1, 3) := dk_181 0 1 (dk_at dksX3_undoable_0 2 rfl rfl)
theorem dX3_undoable_5 : decode cX3_undoable 5 = .ok (.aload_n 0, 1) := dk_42 (dk_at dksX3_undoable_0 5 rfl rfl)
theorem dX3_undoable_6 : decode cX3_undoable 6 = .ok (.getfield 122, 3) := dk_180 0 122 (dk_at dksX3_undoable_0 6 rfl rfl)
theorem dX3_undoable_9 : decode cX3_undoable 9 = .ok (.ireturn, 1) := dk_172 (dk_at dksX3_undoable_0 9 rfl rfl)
abbrev cX3_save : ByteArray := prog_21_method_134_code
def yX3_save : MethodName := ⟨RX3, "save", "(I)I"⟩
def dkwX3_save_1 : List UInt8 := [27, 17, 8, 147, 104, 184, 0, 115, 42, 180, 0, 26, 27, 4, 84, 42, 180, 0, 13, 3, 46, 172]
abbrev dktX3_save_1 : List UInt8 := dkwX3_save_1 ++ []
def dkwX3_save_0 : List UInt8 := [42, 27, 3, 4, 184, 0, 95, 182, 0, 111, 154, 0, 5, 3, 172, 42, 180, 0, 13, 3, 42, 180, 0, 23]
abbrev dktX3_save_0 : List UInt8 := dkwX3_save_0 ++ dktX3_save_1
theorem dksX3_save_0 : cX3_save.data.toList.drop 0 = dktX3_save_0 := by decide +kernel
theorem dksX3_save_1 : cX3_save.data.toList.drop 24 = dktX3_save_1 := dk_seg dksX3_save_0 24 rfl rfl
theorem dX3_save_0 : decode cX3_save 0 = .ok (.aload_n 0, 1) := dk_42 (dk_at dksX3_save_0 0 rfl rfl)
theorem dX3_save_1 : decode cX3_save 1 = .ok (.iload_n 1, 1) := dk_27 (dk_at dksX3_save_0 1 rfl rfl)
theorem dX3_save_2 : decode cX3_save 2 = .ok (.iconst 0, 1) := dk_3 (dk_at dksX3_save_0 2 rfl rfl)
theorem dX3_save_3 : decode cX3_save 3 = .ok (.iconst 1, 1) := dk_4 (dk_at dksX3_save_0 3 rfl rfl)
theorem dX3_save_4 : decode cX3_save 4 = .ok (.invokestatic 95, 3) := dk_184 0 95 (dk_at dksX3_save_0 4 rfl rfl)
theorem dX3_save_7 : decode cX3_save 7 = .ok (.invokevirtual 111, 3) := dk_182 0 111 (dk_at dksX3_save_0 7 rfl rfl)
theorem dX3_save_10 : decode cX3_save 10 = .ok (.ifCond .ne 5, 3) := dk_154 0 5 (dk_at dksX3_save_0 10 rfl rfl)
theorem dX3_save_13 : decode cX3_save 13 = .ok (.iconst 0, 1) := dk_3 (dk_at dksX3_save_0 13 rfl rfl)
theorem dX3_save_14 : decode cX3_save 14 = .ok (.ireturn, 1) := dk_172 (dk_at dksX3_save_0 14 rfl rfl)
theorem dX3_save_15 : decode cX3_save 15 = .ok (.aload_n 0, 1) := dk_42 (dk_at dksX3_save_0 15 rfl rfl)
theorem dX3_save_16 : decode cX3_save 16 = .ok (.getfield 13, 3) := dk_180 0 13 (dk_at dksX3_save_0 16 rfl rfl)
theorem dX3_save_19 : decode cX3_save 19 = .ok (.iconst 0, 1) := dk_3 (dk_at dksX3_save_0 19 rfl rfl)
theorem dX3_save_20 : decode cX3_save 20 = .ok (.aload_n 0, 1) := dk_42 (dk_at dksX3_save_0 20 rfl rfl)
theorem dX3_save_21 : decode cX3_save 21 = .ok (.getfield 23, 3) := dk_180 0 23 (dk_at dksX3_save_0 21 rfl rfl)
theorem dX3_save_24 : decode cX3_save 24 = .ok (.iload_n 1, 1) := dk_27 (dk_at dksX3_save_1 0 rfl rfl)
theorem dX3_save_25 : decode cX3_save 25 = .ok (.sipush 2195, 3) := dk_17 8 147 (dk_at dksX3_save_1 1 rfl rfl)
theorem dX3_save_28 : decode cX3_save 28 = .ok (.imul, 1) := dk_104 (dk_at dksX3_save_1 4 rfl rfl)
theorem dX3_save_29 : decode cX3_save 29 = .ok (.invokestatic 115, 3) := dk_184 0 115 (dk_at dksX3_save_1 5 rfl rfl)
theorem dX3_save_32 : decode cX3_save 32 = .ok (.aload_n 0, 1) := dk_42 (dk_at dksX3_save_1 8 rfl rfl)
theorem dX3_save_33 : decode cX3_save 33 = .ok (.getfield 26, 3) := dk_180 0 26 (dk_at dksX3_save_1 9 rfl rfl)
theorem dX3_save_36 : decode cX3_save 36 = .ok (.iload_n 1, 1) := dk_27 (dk_at dksX3_save_1 12 rfl rfl)
theorem dX3_save_37 : decode cX3_save 37 = .ok (.iconst 1, 1) := dk_4 (dk_at dksX3_save_1 13 rfl rfl)
theorem dX3_save_38 : decode cX3_save 38 = .ok (.bastore, 1) := dk_84 (dk_at dksX3_save_1 14 rfl rfl)
theorem dX3_save_39 : decode cX3_save 39 = .ok (.aload_n 0, 1) := dk_42 (dk_at dksX3_save_1 15 rfl rfl)
theorem dX3_save_40 : decode cX3_save 40 = .ok (.getfield 13, 3) := dk_180 0 13 (dk_at dksX3_save_1 16 rfl rfl)
theorem dX3_save_43 : decode cX3_save 43 = .ok (.iconst 0, 1) := dk_3 (dk_at dksX3_save_1 19 rfl rfl)
theorem dX3_save_44 : decode cX3_save 44 = .ok (.iaload, 1) := dk_46 (dk_at dksX3_save_1 20 rfl rfl)
theorem dX3_save_45 : decode cX3_save 45 = .ok (.ireturn, 1) := dk_172 (dk_at dksX3_save_1 21 rfl rfl)
abbrev cX3_restore : ByteArray := prog_21_method_135_code
def yX3_restore : MethodName := ⟨RX3, "restore", "(I)I"⟩
def dkwX3_restore_2 : List UInt8 := [180, 0, 13, 3, 184, 0, 115, 42, 3, 181, 0, 122, 42, 180, 0, 13, 3, 46, 172]
abbrev dktX3_restore_2 : List UInt8 := dkwX3_restore_2 ++ []
def dkwX3_restore_1 : List UInt8 := [167, 0, 4, 3, 182, 0, 170, 154, 0, 5, 3, 172, 42, 180, 0, 23, 27, 17, 8, 147, 104, 42]
abbrev dktX3_restore_1 : List UInt8 := dkwX3_restore_1 ++ dktX3_restore_2
def dkwX3_restore_0 : List UInt8 := [27, 3, 4, 184, 0, 95, 61, 42, 28, 28, 153, 0, 16, 42, 180, 0, 26, 27, 51, 153, 0, 7, 4]
abbrev dktX3_restore_0 : List UInt8 := dkwX3_restore_0 ++ dktX3_restore_1
theorem dksX3_restore_0 : cX3_restore.data.toList.drop 0 = dktX3_restore_0 := by decide +kernel
theorem dksX3_restore_1 : cX3_restore.data.toList.drop 23 = dktX3_restore_1 := dk_seg dksX3_restore_0 23 rfl rfl
theorem dksX3_restore_2 : cX3_restore.data.toList.drop 45 = dktX3_restore_2 := dk_seg dksX3_restore_1 22 rfl rfl
theorem dX3_restore_0 : decode cX3_restore 0 = .ok (.iload_n 1, 1) := dk_27 (dk_at dksX3_restore_0 0 rfl rfl)
theorem dX3_restore_1 : decode cX3_restore 1 = .ok (.iconst 0, 1) := dk_3 (dk_at dksX3_restore_0 1 rfl rfl)
theorem dX3_restore_2 : decode cX3_restore 2 = .ok (.iconst 1, 1) := dk_4 (dk_at dksX3_restore_0 2 rfl rfl)
theorem dX3_restore_3 : decode cX3_restore 3 = .ok (.invokestatic 95, 3) := dk_184 0 95 (dk_at dksX3_restore_0 3 rfl rfl)
theorem dX3_restore_6 : decode cX3_restore 6 = .ok (.istore_n 2, 1) := dk_61 (dk_at dksX3_restore_0 6 rfl rfl)
theorem dX3_restore_7 : decode cX3_restore 7 = .ok (.aload_n 0, 1) := dk_42 (dk_at dksX3_restore_0 7 rfl rfl)
theorem dX3_restore_8 : decode cX3_restore 8 = .ok (.iload_n 2, 1) := dk_28 (dk_at dksX3_restore_0 8 rfl rfl)
theorem dX3_restore_9 : decode cX3_restore 9 = .ok (.iload_n 2, 1) := dk_28 (dk_at dksX3_restore_0 9 rfl rfl)
theorem dX3_restore_10 : decode cX3_restore 10 = .ok (.ifCond .eq 16, 3) := dk_153 0 16 (dk_at dksX3_restore_0 10 rfl rfl)
theorem dX3_restore_13 : decode cX3_restore 13 = .ok (.aload_n 0, 1) := dk_42 (dk_at dksX3_restore_0 13 rfl rfl)
theorem dX3_restore_14 : decode cX3_restore 14 = .ok (.getfield 26, 3) := dk_180 0 26 (dk_at dksX3_restore_0 14 rfl rfl)
theorem dX3_restore_17 : decode cX3_restore 17 = .ok (.iload_n 1, 1) := dk_27 (dk_at dksX3_restore_0 17 rfl rfl)
theorem dX3_restore_18 : decode cX3_restore 18 = .ok (.baload, 1) := dk_51 (dk_at dksX3_restore_0 18 rfl rfl)
theorem dX3_restore_19 : decode cX3_restore 19 = .ok (.ifCond .eq 7, 3) := dk_153 0 7 (dk_at dksX3_restore_0 19 rfl rfl)
theorem dX3_restore_22 : decode cX3_restore 22 = .ok (.iconst 1, 1) := dk_4 (dk_at dksX3_restore_0 22 rfl rfl)
theorem dX3_restore_23 : decode cX3_restore 23 = .ok (.goto 4, 3) := dk_167 0 4 (dk_at dksX3_restore_1 0 rfl rfl)
theorem dX3_restore_26 : decode cX3_restore 26 = .ok (.iconst 0, 1) := dk_3 (dk_at dksX3_restore_1 3 rfl rfl)
theorem dX3_restore_27 : decode cX3_restore 27 = .ok (.invokevirtual 170, 3) := dk_182 0 170 (dk_at dksX3_restore_1 4 rfl rfl)
theorem dX3_restore_30 : decode cX3_restore 30 = .ok (.ifCond .ne 5, 3) := dk_154 0 5 (dk_at dksX3_restore_1 7 rfl rfl)
theorem dX3_restore_33 : decode cX3_restore 33 = .ok (.iconst 0, 1) := dk_3 (dk_at dksX3_restore_1 10 rfl rfl)
theorem dX3_restore_34 : decode cX3_restore 34 = .ok (.ireturn, 1) := dk_172 (dk_at dksX3_restore_1 11 rfl rfl)
theorem dX3_restore_35 : decode cX3_restore 35 = .ok (.aload_n 0, 1) := dk_42 (dk_at dksX3_restore_1 12 rfl rfl)
theorem dX3_restore_36 : decode cX3_restore 36 = .ok (.getfield 23, 3) := dk_180 0 23 (dk_at dksX3_restore_1 13 rfl rfl)
theorem dX3_restore_39 : decode cX3_restore 39 = .ok (.iload_n 1, 1) := dk_27 (dk_at dksX3_restore_1 16 rfl rfl)
theorem dX3_restore_40 : decode cX3_restore 40 = .ok (.sipush 2195, 3) := dk_17 8 147 (dk_at dksX3_restore_1 17 rfl rfl)
theorem dX3_restore_43 : decode cX3_restore 43 = .ok (.imul, 1) := dk_104 (dk_at dksX3_restore_1 20 rfl rfl)
theorem dX3_restore_44 : decode cX3_restore 44 = .ok (.aload_n 0, 1) := dk_42 (dk_at dksX3_restore_1 21 rfl rfl)
theorem dX3_restore_45 : decode cX3_restore 45 = .ok (.getfield 13, 3) := dk_180 0 13 (dk_at dksX3_restore_2 0 rfl rfl)
theorem dX3_restore_48 : decode cX3_restore 48 = .ok (.iconst 0, 1) := dk_3 (dk_at dksX3_restore_2 3 rfl rfl)
theorem dX3_restore_49 : decode cX3_restore 49 = .ok (.invokestatic 115, 3) := dk_184 0 115 (dk_at dksX3_restore_2 4 rfl rfl)
theorem dX3_restore_52 : decode cX3_restore 52 = .ok (.aload_n 0, 1) := dk_42 (dk_at dksX3_restore_2 7 rfl rfl)
theorem dX3_restore_53 : decode cX3_restore 53 = .ok (.iconst 0, 1) := dk_3 (dk_at dksX3_restore_2 8 rfl rfl)
theorem dX3_restore_54 : decode cX3_restore 54 = .ok (.putfield 122, 3) := dk_181 0 122 (dk_at dksX3_restore_2 9 rfl rfl)
theorem dX3_restore_57 : decode cX3_restore 57 = .ok (.aload_n 0, 1) := dk_42 (dk_at dksX3_restore_2 12 rfl rfl)
theorem dX3_restore_58 : decode cX3_restore 58 = .ok (.getfield 13, 3) := dk_180 0 13 (dk_at dksX3_restore_2 13 rfl rfl)
theorem dX3_restore_61 : decode cX3_restore 61 = .ok (.iconst 0, 1) := dk_3 (dk_at dksX3_restore_2 16 rfl rfl)
theorem dX3_restore_62 : decode cX3_restore 62 = .ok (.iaload, 1) := dk_46 (dk_at dksX3_restore_2 17 rfl rfl)
theorem dX3_restore_63 : decode cX3_restore 63 = .ok (.ireturn, 1) := dk_172 (dk_at dksX3_restore_2 18 rfl rfl)
theorem q116 : (Jvm.Cond.initialized "FoldListerModel") ∈ lw_all := lw_g (lw_at lw_m1 13 rfl) rfl
theorem q1006 : (Jvm.Cond.selects "FoldListerModel" ({ cls := "java/lang/Object", name := "getClass", desc := "()Ljava/lang/Class;" } : Jvm.MethodName) ({ cls := "java/lang/Object", name := "getClass", desc := "()Ljava/lang/Class;" } : Jvm.MethodName)) ∈ lw_all := lw_g (lw_at lw_m4 183 rfl) rfl
theorem q2957 : (Jvm.Cond.instanceMethod ({ cls := "FoldListerModel", name := "thrown", desc := "()I" } : Jvm.MethodName)) ∈ lw_all := lw_g (lw_at lw_m12 214 rfl) rfl
theorem q2958 : (Jvm.Cond.selects "FoldListerModel" ({ cls := "FoldListerModel", name := "thrown", desc := "()I" } : Jvm.MethodName) ({ cls := "FoldListerModel", name := "thrown", desc := "()I" } : Jvm.MethodName)) ∈ lw_all := lw_g (lw_at lw_m12 215 rfl) rfl
theorem q2959 : (Jvm.Cond.code ({ cls := "FoldListerModel", name := "thrown", desc := "()I" } : Jvm.MethodName) prog_21_method_1_code (1 : Nat) (Option.some Jvm.ClassFile.FieldType.int)) ∈ lw_all := lw_g (lw_at lw_m12 216 rfl) rfl
theorem q2961 : (Jvm.Cond.instantiable "FoldListerModel" (29 : Nat)) ∈ lw_all := lw_g (lw_at lw_m12 218 rfl) rfl
theorem q2963 : (Jvm.Cond.instanceMethod ({ cls := "FoldListerModel", name := "<init>", desc := "()V" } : Jvm.MethodName)) ∈ lw_all := lw_g (lw_at lw_m12 220 rfl) rfl
theorem q2964 : (Jvm.Cond.code ({ cls := "FoldListerModel", name := "<init>", desc := "()V" } : Jvm.MethodName) prog_21_method_5_code (1 : Nat) (Option.none : Option Jvm.ClassFile.FieldType)) ∈ lw_all := lw_g (lw_at lw_m12 221 rfl) rfl
theorem q2965 : (Jvm.Cond.methodLink "FoldListerModel" (7 : Nat) ({ cls := "java/lang/Object", name := "<init>", desc := "()V" } : Jvm.MethodName)) ∈ lw_all := lw_g (lw_at lw_m12 222 rfl) rfl
theorem q2966 : (Jvm.Cond.methodLink "FoldListerModel" (82 : Nat) ({ cls := "FoldListerModel", name := "clears", desc := "()V" } : Jvm.MethodName)) ∈ lw_all := lw_g (lw_at lw_m12 223 rfl) rfl
theorem q2967 : (Jvm.Cond.privateMethod ({ cls := "FoldListerModel", name := "clears", desc := "()V" } : Jvm.MethodName)) ∈ lw_tbl := lw_at lw_m12 224 rfl
theorem q2968 : (Jvm.Cond.instanceMethod ({ cls := "FoldListerModel", name := "clears", desc := "()V" } : Jvm.MethodName)) ∈ lw_all := lw_g (lw_at lw_m12 225 rfl) rfl
theorem q2969 : (Jvm.Cond.code ({ cls := "FoldListerModel", name := "clears", desc := "()V" } : Jvm.MethodName) prog_21_method_7_code (2 : Nat) (Option.none : Option Jvm.ClassFile.FieldType)) ∈ lw_all := lw_g (lw_at lw_m12 226 rfl) rfl
theorem q2970 : (Jvm.Cond.fieldLink "FoldListerModel" (1 : Nat) "FoldListerModel" "thrown" "I") ∈ lw_all := lw_g (lw_at lw_m12 227 rfl) rfl
theorem q2971 : (Jvm.Cond.fieldLink "FoldListerModel" (13 : Nat) "FoldListerModel" "now" "[I") ∈ lw_all := lw_g (lw_at lw_m12 228 rfl) rfl
theorem q2972 : (Jvm.Cond.fieldLink "FoldListerModel" (17 : Nat) "FoldListerModel" "aside" "[I") ∈ lw_all := lw_g (lw_at lw_m12 229 rfl) rfl
theorem q2973 : (Jvm.Cond.fieldLink "FoldListerModel" (20 : Nat) "FoldListerModel" "undos" "[I") ∈ lw_all := lw_g (lw_at lw_m12 230 rfl) rfl
theorem q2974 : (Jvm.Cond.fieldLink "FoldListerModel" (23 : Nat) "FoldListerModel" "saved" "[I") ∈ lw_all := lw_g (lw_at lw_m12 231 rfl) rfl
theorem q2975 : (Jvm.Cond.fieldLink "FoldListerModel" (26 : Nat) "FoldListerModel" "isSaved" "[Z") ∈ lw_all := lw_g (lw_at lw_m12 232 rfl) rfl
theorem q2976 : (Jvm.Cond.fieldLink "FoldListerModel" (122 : Nat) "FoldListerModel" "undoMany" "I") ∈ lw_all := lw_g (lw_at lw_m12 233 rfl) rfl
theorem q2977 : (Jvm.Cond.fieldLink "FoldListerModel" (30 : Nat) "FoldListerModel" "buffer" "[B") ∈ lw_all := lw_g (lw_at lw_m12 234 rfl) rfl
theorem q2978 : (Jvm.Cond.fieldLink "FoldListerModel" (85 : Nat) "FoldListerModel" "buffered" "I") ∈ lw_all := lw_g (lw_at lw_m12 235 rfl) rfl
theorem q2979 : (Jvm.Cond.fieldLink "FoldListerModel" (92 : Nat) "FoldListerModel" "parseCode" "I") ∈ lw_all := lw_g (lw_at lw_m12 236 rfl) rfl
theorem q2980 : (Jvm.Cond.fieldLink "FoldListerModel" (34 : Nat) "FoldListerModel" "parseAt" "I") ∈ lw_all := lw_g (lw_at lw_m12 237 rfl) rfl
theorem q2981 : (Jvm.Cond.fieldLink "FoldListerModel" (37 : Nat) "FoldListerModel" "mate" "[I") ∈ lw_all := lw_g (lw_at lw_m12 238 rfl) rfl
theorem q2982 : (Jvm.Cond.fieldLink "FoldListerModel" (40 : Nat) "FoldListerModel" "stack" "[I") ∈ lw_all := lw_g (lw_at lw_m12 239 rfl) rfl
theorem q2983 : (Jvm.Cond.fieldLink "FoldListerModel" (43 : Nat) "FoldListerModel" "regionOf" "[I") ∈ lw_all := lw_g (lw_at lw_m13 0 rfl) rfl
theorem q2984 : (Jvm.Cond.fieldLink "FoldListerModel" (46 : Nat) "FoldListerModel" "first" "[I") ∈ lw_all := lw_g (lw_at lw_m13 1 rfl) rfl
theorem q2985 : (Jvm.Cond.fieldLink "FoldListerModel" (49 : Nat) "FoldListerModel" "last" "[I") ∈ lw_all := lw_g (lw_at lw_m13 2 rfl) rfl
theorem q2986 : (Jvm.Cond.fieldLink "FoldListerModel" (52 : Nat) "FoldListerModel" "opens" "[I") ∈ lw_all := lw_g (lw_at lw_m13 3 rfl) rfl
theorem q2987 : (Jvm.Cond.fieldLink "FoldListerModel" (55 : Nat) "FoldListerModel" "shuts" "[I") ∈ lw_all := lw_g (lw_at lw_m13 4 rfl) rfl
theorem q2988 : (Jvm.Cond.fieldLink "FoldListerModel" (58 : Nat) "FoldListerModel" "level" "[I") ∈ lw_all := lw_g (lw_at lw_m13 5 rfl) rfl
theorem q2989 : (Jvm.Cond.fieldLink "FoldListerModel" (61 : Nat) "FoldListerModel" "parent" "[I") ∈ lw_all := lw_g (lw_at lw_m13 6 rfl) rfl
theorem q2990 : (Jvm.Cond.fieldLink "FoldListerModel" (64 : Nat) "FoldListerModel" "depth" "[I") ∈ lw_all := lw_g (lw_at lw_m13 7 rfl) rfl
theorem q2991 : (Jvm.Cond.fieldLink "FoldListerModel" (67 : Nat) "FoldListerModel" "isHidden" "[Z") ∈ lw_all := lw_g (lw_at lw_m13 8 rfl) rfl
theorem q2992 : (Jvm.Cond.fieldLink "FoldListerModel" (145 : Nat) "FoldListerModel" "regions" "I") ∈ lw_all := lw_g (lw_at lw_m13 9 rfl) rfl
theorem q2993 : (Jvm.Cond.fieldLink "FoldListerModel" (136 : Nat) "FoldListerModel" "loose" "I") ∈ lw_all := lw_g (lw_at lw_m13 10 rfl) rfl
theorem q2994 : (Jvm.Cond.fieldLink "FoldListerModel" (70 : Nat) "FoldListerModel" "isOpened" "[Z") ∈ lw_all := lw_g (lw_at lw_m13 11 rfl) rfl
theorem q2995 : (Jvm.Cond.fieldLink "FoldListerModel" (73 : Nat) "FoldListerModel" "page" "[B") ∈ lw_all := lw_g (lw_at lw_m13 12 rfl) rfl
theorem q2996 : (Jvm.Cond.fieldLink "FoldListerModel" (269 : Nat) "FoldListerModel" "pageSize" "I") ∈ lw_all := lw_g (lw_at lw_m13 13 rfl) rfl
theorem q2997 : (Jvm.Cond.fieldLink "FoldListerModel" (76 : Nat) "FoldListerModel" "order" "[I") ∈ lw_all := lw_g (lw_at lw_m13 14 rfl) rfl
theorem q2998 : (Jvm.Cond.fieldLink "FoldListerModel" (79 : Nat) "FoldListerModel" "moved" "[I") ∈ lw_all := lw_g (lw_at lw_m13 15 rfl) rfl
theorem q2999 : (Jvm.Cond.lays "FoldListerModel" "FoldListerModel" "thrown" "I") ∈ lw_all := lw_g (lw_at lw_m13 16 rfl) rfl
theorem q3000 : (Jvm.Cond.soleField "FoldListerModel" "thrown") ∈ lw_all := lw_g (lw_at lw_m13 17 rfl) rfl
theorem q3001 : (Jvm.Cond.laysFinal "FoldListerModel" "FoldListerModel" "now" "[I") ∈ lw_all := lw_g (lw_at lw_m13 18 rfl) rfl
theorem q3002 : (Jvm.Cond.soleField "FoldListerModel" "now") ∈ lw_all := lw_g (lw_at lw_m13 19 rfl) rfl
theorem q3003 : (Jvm.Cond.laysFinal "FoldListerModel" "FoldListerModel" "aside" "[I") ∈ lw_all := lw_g (lw_at lw_m13 20 rfl) rfl
theorem q3004 : (Jvm.Cond.soleField "FoldListerModel" "aside") ∈ lw_all := lw_g (lw_at lw_m13 21 rfl) rfl
theorem q3005 : (Jvm.Cond.laysFinal "FoldListerModel" "FoldListerModel" "undos" "[I") ∈ lw_all := lw_g (lw_at lw_m13 22 rfl) rfl
theorem q3006 : (Jvm.Cond.soleField "FoldListerModel" "undos") ∈ lw_all := lw_g (lw_at lw_m13 23 rfl) rfl
theorem q3007 : (Jvm.Cond.laysFinal "FoldListerModel" "FoldListerModel" "saved" "[I") ∈ lw_all := lw_g (lw_at lw_m13 24 rfl) rfl
theorem q3008 : (Jvm.Cond.soleField "FoldListerModel" "saved") ∈ lw_all := lw_g (lw_at lw_m13 25 rfl) rfl
theorem q3009 : (Jvm.Cond.laysFinal "FoldListerModel" "FoldListerModel" "isSaved" "[Z") ∈ lw_all := lw_g (lw_at lw_m13 26 rfl) rfl
theorem q3010 : (Jvm.Cond.soleField "FoldListerModel" "isSaved") ∈ lw_all := lw_g (lw_at lw_m13 27 rfl) rfl
theorem q3011 : (Jvm.Cond.lays "FoldListerModel" "FoldListerModel" "undoMany" "I") ∈ lw_all := lw_g (lw_at lw_m13 28 rfl) rfl
theorem q3012 : (Jvm.Cond.soleField "FoldListerModel" "undoMany") ∈ lw_all := lw_g (lw_at lw_m13 29 rfl) rfl
theorem q3013 : (Jvm.Cond.laysFinal "FoldListerModel" "FoldListerModel" "buffer" "[B") ∈ lw_all := lw_g (lw_at lw_m13 30 rfl) rfl
theorem q3014 : (Jvm.Cond.soleField "FoldListerModel" "buffer") ∈ lw_all := lw_g (lw_at lw_m13 31 rfl) rfl
theorem q3015 : (Jvm.Cond.lays "FoldListerModel" "FoldListerModel" "buffered" "I") ∈ lw_all := lw_g (lw_at lw_m13 32 rfl) rfl
theorem q3016 : (Jvm.Cond.soleField "FoldListerModel" "buffered") ∈ lw_all := lw_g (lw_at lw_m13 33 rfl) rfl
theorem q3017 : (Jvm.Cond.lays "FoldListerModel" "FoldListerModel" "parseCode" "I") ∈ lw_all := lw_g (lw_at lw_m13 34 rfl) rfl
theorem q3018 : (Jvm.Cond.soleField "FoldListerModel" "parseCode") ∈ lw_all := lw_g (lw_at lw_m13 35 rfl) rfl
theorem q3019 : (Jvm.Cond.lays "FoldListerModel" "FoldListerModel" "parseAt" "I") ∈ lw_all := lw_g (lw_at lw_m13 36 rfl) rfl
theorem q3020 : (Jvm.Cond.soleField "FoldListerModel" "parseAt") ∈ lw_all := lw_g (lw_at lw_m13 37 rfl) rfl
theorem q3021 : (Jvm.Cond.laysFinal "FoldListerModel" "FoldListerModel" "mate" "[I") ∈ lw_all := lw_g (lw_at lw_m13 38 rfl) rfl
theorem q3022 : (Jvm.Cond.soleField "FoldListerModel" "mate") ∈ lw_all := lw_g (lw_at lw_m13 39 rfl) rfl
theorem q3023 : (Jvm.Cond.laysFinal "FoldListerModel" "FoldListerModel" "stack" "[I") ∈ lw_all := lw_g (lw_at lw_m13 40 rfl) rfl
theorem q3024 : (Jvm.Cond.soleField "FoldListerModel" "stack") ∈ lw_all := lw_g (lw_at lw_m13 41 rfl) rfl
theorem q3025 : (Jvm.Cond.laysFinal "FoldListerModel" "FoldListerModel" "regionOf" "[I") ∈ lw_all := lw_g (lw_at lw_m13 42 rfl) rfl
theorem q3026 : (Jvm.Cond.soleField "FoldListerModel" "regionOf") ∈ lw_all := lw_g (lw_at lw_m13 43 rfl) rfl
theorem q3027 : (Jvm.Cond.laysFinal "FoldListerModel" "FoldListerModel" "first" "[I") ∈ lw_all := lw_g (lw_at lw_m13 44 rfl) rfl
theorem q3028 : (Jvm.Cond.soleField "FoldListerModel" "first") ∈ lw_all := lw_g (lw_at lw_m13 45 rfl) rfl
theorem q3029 : (Jvm.Cond.laysFinal "FoldListerModel" "FoldListerModel" "last" "[I") ∈ lw_all := lw_g (lw_at lw_m13 46 rfl) rfl
theorem q3030 : (Jvm.Cond.soleField "FoldListerModel" "last") ∈ lw_all := lw_g (lw_at lw_m13 47 rfl) rfl
theorem q3031 : (Jvm.Cond.laysFinal "FoldListerModel" "FoldListerModel" "opens" "[I") ∈ lw_all := lw_g (lw_at lw_m13 48 rfl) rfl
theorem q3032 : (Jvm.Cond.soleField "FoldListerModel" "opens") ∈ lw_all := lw_g (lw_at lw_m13 49 rfl) rfl
theorem q3033 : (Jvm.Cond.laysFinal "FoldListerModel" "FoldListerModel" "shuts" "[I") ∈ lw_all := lw_g (lw_at lw_m13 50 rfl) rfl
theorem q3034 : (Jvm.Cond.soleField "FoldListerModel" "shuts") ∈ lw_all := lw_g (lw_at lw_m13 51 rfl) rfl
theorem q3035 : (Jvm.Cond.laysFinal "FoldListerModel" "FoldListerModel" "level" "[I") ∈ lw_all := lw_g (lw_at lw_m13 52 rfl) rfl
theorem q3036 : (Jvm.Cond.soleField "FoldListerModel" "level") ∈ lw_all := lw_g (lw_at lw_m13 53 rfl) rfl
theorem q3037 : (Jvm.Cond.laysFinal "FoldListerModel" "FoldListerModel" "parent" "[I") ∈ lw_all := lw_g (lw_at lw_m13 54 rfl) rfl
theorem q3038 : (Jvm.Cond.soleField "FoldListerModel" "parent") ∈ lw_all := lw_g (lw_at lw_m13 55 rfl) rfl
theorem q3039 : (Jvm.Cond.laysFinal "FoldListerModel" "FoldListerModel" "depth" "[I") ∈ lw_all := lw_g (lw_at lw_m13 56 rfl) rfl
theorem q3040 : (Jvm.Cond.soleField "FoldListerModel" "depth") ∈ lw_all := lw_g (lw_at lw_m13 57 rfl) rfl
theorem q3041 : (Jvm.Cond.laysFinal "FoldListerModel" "FoldListerModel" "isHidden" "[Z") ∈ lw_all := lw_g (lw_at lw_m13 58 rfl) rfl
theorem q3042 : (Jvm.Cond.soleField "FoldListerModel" "isHidden") ∈ lw_all := lw_g (lw_at lw_m13 59 rfl) rfl
theorem q3043 : (Jvm.Cond.lays "FoldListerModel" "FoldListerModel" "regions" "I") ∈ lw_all := lw_g (lw_at lw_m13 60 rfl) rfl
theorem q3044 : (Jvm.Cond.soleField "FoldListerModel" "regions") ∈ lw_all := lw_g (lw_at lw_m13 61 rfl) rfl
theorem q3045 : (Jvm.Cond.lays "FoldListerModel" "FoldListerModel" "loose" "I") ∈ lw_all := lw_g (lw_at lw_m13 62 rfl) rfl
theorem q3046 : (Jvm.Cond.soleField "FoldListerModel" "loose") ∈ lw_all := lw_g (lw_at lw_m13 63 rfl) rfl
theorem q3047 : (Jvm.Cond.laysFinal "FoldListerModel" "FoldListerModel" "isOpened" "[Z") ∈ lw_all := lw_g (lw_at lw_m13 64 rfl) rfl
theorem q3048 : (Jvm.Cond.soleField "FoldListerModel" "isOpened") ∈ lw_all := lw_g (lw_at lw_m13 65 rfl) rfl
theorem q3049 : (Jvm.Cond.laysFinal "FoldListerModel" "FoldListerModel" "page" "[B") ∈ lw_all := lw_g (lw_at lw_m13 66 rfl) rfl
theorem q3050 : (Jvm.Cond.soleField "FoldListerModel" "page") ∈ lw_all := lw_g (lw_at lw_m13 67 rfl) rfl
theorem q3051 : (Jvm.Cond.lays "FoldListerModel" "FoldListerModel" "pageSize" "I") ∈ lw_all := lw_g (lw_at lw_m13 68 rfl) rfl
theorem q3052 : (Jvm.Cond.soleField "FoldListerModel" "pageSize") ∈ lw_all := lw_g (lw_at lw_m13 69 rfl) rfl
theorem q3053 : (Jvm.Cond.laysFinal "FoldListerModel" "FoldListerModel" "order" "[I") ∈ lw_all := lw_g (lw_at lw_m13 70 rfl) rfl
theorem q3054 : (Jvm.Cond.soleField "FoldListerModel" "order") ∈ lw_all := lw_g (lw_at lw_m13 71 rfl) rfl
theorem q3055 : (Jvm.Cond.laysFinal "FoldListerModel" "FoldListerModel" "moved" "[I") ∈ lw_all := lw_g (lw_at lw_m13 72 rfl) rfl
theorem q3056 : (Jvm.Cond.soleField "FoldListerModel" "moved") ∈ lw_all := lw_g (lw_at lw_m13 73 rfl) rfl
theorem q3057 : (Jvm.Cond.superclass "FoldListerModel" "java/lang/Object") ∈ lw_all := lw_g (lw_at lw_m13 74 rfl) rfl
theorem q3060 : (Jvm.Cond.instanceMethod ({ cls := "FoldListerModel", name := "append", desc := "(IIIII)I" } : Jvm.MethodName)) ∈ lw_all := lw_g (lw_at lw_m13 77 rfl) rfl
theorem q3061 : (Jvm.Cond.selects "FoldListerModel" ({ cls := "FoldListerModel", name := "append", desc := "(IIIII)I" } : Jvm.MethodName) ({ cls := "FoldListerModel", name := "append", desc := "(IIIII)I" } : Jvm.MethodName)) ∈ lw_all := lw_g (lw_at lw_m13 78 rfl) rfl
theorem q3062 : (Jvm.Cond.code ({ cls := "FoldListerModel", name := "append", desc := "(IIIII)I" } : Jvm.MethodName) prog_21_method_8_code (6 : Nat) (Option.some Jvm.ClassFile.FieldType.int)) ∈ lw_all := lw_g (lw_at lw_m13 79 rfl) rfl
theorem q3063 : (Jvm.Cond.methodLink "FoldListerModel" (88 : Nat) ({ cls := "FoldListerModel", name := "four", desc := "(I)V" } : Jvm.MethodName)) ∈ lw_all := lw_g (lw_at lw_m13 80 rfl) rfl
theorem q3064 : (Jvm.Cond.privateMethod ({ cls := "FoldListerModel", name := "four", desc := "(I)V" } : Jvm.MethodName)) ∈ lw_tbl := lw_at lw_m13 81 rfl
theorem q3065 : (Jvm.Cond.instanceMethod ({ cls := "FoldListerModel", name := "four", desc := "(I)V" } : Jvm.MethodName)) ∈ lw_all := lw_g (lw_at lw_m13 82 rfl) rfl
theorem q3066 : (Jvm.Cond.code ({ cls := "FoldListerModel", name := "four", desc := "(I)V" } : Jvm.MethodName) prog_21_method_9_code (3 : Nat) (Option.none : Option Jvm.ClassFile.FieldType)) ∈ lw_all := lw_g (lw_at lw_m13 83 rfl) rfl
theorem q3068 : (Jvm.Cond.instanceMethod ({ cls := "FoldListerModel", name := "parseError", desc := "()I" } : Jvm.MethodName)) ∈ lw_all := lw_g (lw_at lw_m13 85 rfl) rfl
theorem q3069 : (Jvm.Cond.selects "FoldListerModel" ({ cls := "FoldListerModel", name := "parseError", desc := "()I" } : Jvm.MethodName) ({ cls := "FoldListerModel", name := "parseError", desc := "()I" } : Jvm.MethodName)) ∈ lw_all := lw_g (lw_at lw_m13 86 rfl) rfl
theorem q3070 : (Jvm.Cond.code ({ cls := "FoldListerModel", name := "parseError", desc := "()I" } : Jvm.MethodName) prog_21_method_10_code (1 : Nat) (Option.some Jvm.ClassFile.FieldType.int)) ∈ lw_all := lw_g (lw_at lw_m13 87 rfl) rfl
theorem q3072 : (Jvm.Cond.instanceMethod ({ cls := "FoldListerModel", name := "errorPosition", desc := "()I" } : Jvm.MethodName)) ∈ lw_all := lw_g (lw_at lw_m13 89 rfl) rfl
theorem q3073 : (Jvm.Cond.selects "FoldListerModel" ({ cls := "FoldListerModel", name := "errorPosition", desc := "()I" } : Jvm.MethodName) ({ cls := "FoldListerModel", name := "errorPosition", desc := "()I" } : Jvm.MethodName)) ∈ lw_all := lw_g (lw_at lw_m13 90 rfl) rfl
theorem q3074 : (Jvm.Cond.code ({ cls := "FoldListerModel", name := "errorPosition", desc := "()I" } : Jvm.MethodName) prog_21_method_11_code (1 : Nat) (Option.some Jvm.ClassFile.FieldType.int)) ∈ lw_all := lw_g (lw_at lw_m13 91 rfl) rfl
theorem q3076 : (Jvm.Cond.instanceMethod ({ cls := "FoldListerModel", name := "buffered", desc := "()I" } : Jvm.MethodName)) ∈ lw_all := lw_g (lw_at lw_m13 93 rfl) rfl
theorem q3077 : (Jvm.Cond.selects "FoldListerModel" ({ cls := "FoldListerModel", name := "buffered", desc := "()I" } : Jvm.MethodName) ({ cls := "FoldListerModel", name := "buffered", desc := "()I" } : Jvm.MethodName)) ∈ lw_all := lw_g (lw_at lw_m13 94 rfl) rfl
theorem q3078 : (Jvm.Cond.code ({ cls := "FoldListerModel", name := "buffered", desc := "()I" } : Jvm.MethodName) prog_21_method_12_code (1 : Nat) (Option.some Jvm.ClassFile.FieldType.int)) ∈ lw_all := lw_g (lw_at lw_m13 95 rfl) rfl
theorem q3080 : (Jvm.Cond.instanceMethod ({ cls := "FoldListerModel", name := "load", desc := "(I)I" } : Jvm.MethodName)) ∈ lw_all := lw_g (lw_at lw_m13 97 rfl) rfl
theorem q3081 : (Jvm.Cond.selects "FoldListerModel" ({ cls := "FoldListerModel", name := "load", desc := "(I)I" } : Jvm.MethodName) ({ cls := "FoldListerModel", name := "load", desc := "(I)I" } : Jvm.MethodName)) ∈ lw_all := lw_g (lw_at lw_m13 98 rfl) rfl
theorem q3082 : (Jvm.Cond.code ({ cls := "FoldListerModel", name := "load", desc := "(I)I" } : Jvm.MethodName) prog_21_method_17_code (2 : Nat) (Option.some Jvm.ClassFile.FieldType.int)) ∈ lw_all := lw_g (lw_at lw_m13 99 rfl) rfl
theorem q3083 : (Jvm.Cond.methodLink "FoldListerModel" (95 : Nat) ({ cls := "FoldListerModel", name := "in", desc := "(III)Z" } : Jvm.MethodName)) ∈ lw_all := lw_g (lw_at lw_m13 100 rfl) rfl
theorem q3084 : (Jvm.Cond.static ({ cls := "FoldListerModel", name := "in", desc := "(III)Z" } : Jvm.MethodName)) ∈ lw_all := lw_g (lw_at lw_m13 101 rfl) rfl
theorem q3085 : (Jvm.Cond.code ({ cls := "FoldListerModel", name := "in", desc := "(III)Z" } : Jvm.MethodName) prog_21_method_2_code (3 : Nat) (Option.some Jvm.ClassFile.FieldType.boolean)) ∈ lw_all := lw_g (lw_at lw_m13 102 rfl) rfl
theorem q3086 : (Jvm.Cond.methodLink "FoldListerModel" (111 : Nat) ({ cls := "FoldListerModel", name := "may", desc := "(Z)Z" } : Jvm.MethodName)) ∈ lw_all := lw_g (lw_at lw_m13 103 rfl) rfl
theorem q3087 : (Jvm.Cond.privateMethod ({ cls := "FoldListerModel", name := "may", desc := "(Z)Z" } : Jvm.MethodName)) ∈ lw_tbl := lw_at lw_m13 104 rfl
theorem q3088 : (Jvm.Cond.instanceMethod ({ cls := "FoldListerModel", name := "may", desc := "(Z)Z" } : Jvm.MethodName)) ∈ lw_all := lw_g (lw_at lw_m13 105 rfl) rfl
theorem q3089 : (Jvm.Cond.code ({ cls := "FoldListerModel", name := "may", desc := "(Z)Z" } : Jvm.MethodName) prog_21_method_3_code (2 : Nat) (Option.some Jvm.ClassFile.FieldType.boolean)) ∈ lw_all := lw_g (lw_at lw_m13 106 rfl) rfl
theorem q3090 : (Jvm.Cond.methodLink "FoldListerModel" (115 : Nat) ({ cls := "FoldListerModel", name := "copies", desc := "([II[II)V" } : Jvm.MethodName)) ∈ lw_all := lw_g (lw_at lw_m13 107 rfl) rfl
theorem q3091 : (Jvm.Cond.static ({ cls := "FoldListerModel", name := "copies", desc := "([II[II)V" } : Jvm.MethodName)) ∈ lw_all := lw_g (lw_at lw_m13 108 rfl) rfl
theorem q3092 : (Jvm.Cond.code ({ cls := "FoldListerModel", name := "copies", desc := "([II[II)V" } : Jvm.MethodName) prog_21_method_6_code (5 : Nat) (Option.none : Option Jvm.ClassFile.FieldType)) ∈ lw_all := lw_g (lw_at lw_m13 109 rfl) rfl
theorem q3093 : (Jvm.Cond.methodLink "FoldListerModel" (119 : Nat) ({ cls := "FoldListerModel", name := "reads", desc := "(I)V" } : Jvm.MethodName)) ∈ lw_all := lw_g (lw_at lw_m13 110 rfl) rfl
theorem q3094 : (Jvm.Cond.privateMethod ({ cls := "FoldListerModel", name := "reads", desc := "(I)V" } : Jvm.MethodName)) ∈ lw_tbl := lw_at lw_m13 111 rfl
theorem q3095 : (Jvm.Cond.instanceMethod ({ cls := "FoldListerModel", name := "reads", desc := "(I)V" } : Jvm.MethodName)) ∈ lw_all := lw_g (lw_at lw_m13 112 rfl) rfl
theorem q3096 : (Jvm.Cond.code ({ cls := "FoldListerModel", name := "reads", desc := "(I)V" } : Jvm.MethodName) prog_21_method_16_code (5 : Nat) (Option.none : Option Jvm.ClassFile.FieldType)) ∈ lw_all := lw_g (lw_at lw_m13 113 rfl) rfl
theorem q3097 : (Jvm.Cond.methodLink "FoldListerModel" (99 : Nat) ({ cls := "FoldListerModel", name := "comes", desc := "()I" } : Jvm.MethodName)) ∈ lw_all := lw_g (lw_at lw_m13 114 rfl) rfl
theorem q3098 : (Jvm.Cond.privateMethod ({ cls := "FoldListerModel", name := "comes", desc := "()I" } : Jvm.MethodName)) ∈ lw_tbl := lw_at lw_m13 115 rfl
theorem q3099 : (Jvm.Cond.instanceMethod ({ cls := "FoldListerModel", name := "comes", desc := "()I" } : Jvm.MethodName)) ∈ lw_all := lw_g (lw_at lw_m13 116 rfl) rfl
theorem q3100 : (Jvm.Cond.code ({ cls := "FoldListerModel", name := "comes", desc := "()I" } : Jvm.MethodName) prog_21_method_15_code (2 : Nat) (Option.some Jvm.ClassFile.FieldType.int)) ∈ lw_all := lw_g (lw_at lw_m13 117 rfl) rfl
theorem q3101 : (Jvm.Cond.methodLink "FoldListerModel" (103 : Nat) ({ cls := "FoldListerModel", name := "faults", desc := "(II)V" } : Jvm.MethodName)) ∈ lw_all := lw_g (lw_at lw_m13 118 rfl) rfl
theorem q3102 : (Jvm.Cond.privateMethod ({ cls := "FoldListerModel", name := "faults", desc := "(II)V" } : Jvm.MethodName)) ∈ lw_tbl := lw_at lw_m13 119 rfl
theorem q3103 : (Jvm.Cond.instanceMethod ({ cls := "FoldListerModel", name := "faults", desc := "(II)V" } : Jvm.MethodName)) ∈ lw_all := lw_g (lw_at lw_m13 120 rfl) rfl
theorem q3104 : (Jvm.Cond.code ({ cls := "FoldListerModel", name := "faults", desc := "(II)V" } : Jvm.MethodName) prog_21_method_14_code (3 : Nat) (Option.none : Option Jvm.ClassFile.FieldType)) ∈ lw_all := lw_g (lw_at lw_m13 121 rfl) rfl
theorem q3105 : (Jvm.Cond.methodLink "FoldListerModel" (107 : Nat) ({ cls := "FoldListerModel", name := "isByte", desc := "(I)Z" } : Jvm.MethodName)) ∈ lw_all := lw_g (lw_at lw_m13 122 rfl) rfl
theorem q3106 : (Jvm.Cond.static ({ cls := "FoldListerModel", name := "isByte", desc := "(I)Z" } : Jvm.MethodName)) ∈ lw_all := lw_g (lw_at lw_m13 123 rfl) rfl
theorem q3107 : (Jvm.Cond.code ({ cls := "FoldListerModel", name := "isByte", desc := "(I)Z" } : Jvm.MethodName) prog_21_method_13_code (1 : Nat) (Option.some Jvm.ClassFile.FieldType.boolean)) ∈ lw_all := lw_g (lw_at lw_m13 124 rfl) rfl
theorem q3109 : (Jvm.Cond.instanceMethod ({ cls := "FoldListerModel", name := "line", desc := "(II)I" } : Jvm.MethodName)) ∈ lw_all := lw_g (lw_at lw_m13 126 rfl) rfl
theorem q3110 : (Jvm.Cond.selects "FoldListerModel" ({ cls := "FoldListerModel", name := "line", desc := "(II)I" } : Jvm.MethodName) ({ cls := "FoldListerModel", name := "line", desc := "(II)I" } : Jvm.MethodName)) ∈ lw_all := lw_g (lw_at lw_m13 127 rfl) rfl
theorem q3111 : (Jvm.Cond.code ({ cls := "FoldListerModel", name := "line", desc := "(II)I" } : Jvm.MethodName) prog_21_method_40_code (3 : Nat) (Option.some Jvm.ClassFile.FieldType.int)) ∈ lw_all := lw_g (lw_at lw_m13 128 rfl) rfl
theorem q3112 : (Jvm.Cond.methodLink "FoldListerModel" (167 : Nat) ({ cls := "FoldListerModel", name := "isLine", desc := "(I)Z" } : Jvm.MethodName)) ∈ lw_all := lw_g (lw_at lw_m13 129 rfl) rfl
theorem q3113 : (Jvm.Cond.privateMethod ({ cls := "FoldListerModel", name := "isLine", desc := "(I)Z" } : Jvm.MethodName)) ∈ lw_tbl := lw_at lw_m13 130 rfl
theorem q3114 : (Jvm.Cond.instanceMethod ({ cls := "FoldListerModel", name := "isLine", desc := "(I)Z" } : Jvm.MethodName)) ∈ lw_all := lw_g (lw_at lw_m13 131 rfl) rfl
theorem q3115 : (Jvm.Cond.code ({ cls := "FoldListerModel", name := "isLine", desc := "(I)Z" } : Jvm.MethodName) prog_21_method_18_code (2 : Nat) (Option.some Jvm.ClassFile.FieldType.boolean)) ∈ lw_all := lw_g (lw_at lw_m13 132 rfl) rfl
theorem q3116 : (Jvm.Cond.methodLink "FoldListerModel" (170 : Nat) ({ cls := "FoldListerModel", name := "mayBoth", desc := "(ZZ)Z" } : Jvm.MethodName)) ∈ lw_all := lw_g (lw_at lw_m13 133 rfl) rfl
theorem q3117 : (Jvm.Cond.privateMethod ({ cls := "FoldListerModel", name := "mayBoth", desc := "(ZZ)Z" } : Jvm.MethodName)) ∈ lw_tbl := lw_at lw_m13 134 rfl
theorem q3118 : (Jvm.Cond.instanceMethod ({ cls := "FoldListerModel", name := "mayBoth", desc := "(ZZ)Z" } : Jvm.MethodName)) ∈ lw_all := lw_g (lw_at lw_m13 135 rfl) rfl
theorem q3119 : (Jvm.Cond.code ({ cls := "FoldListerModel", name := "mayBoth", desc := "(ZZ)Z" } : Jvm.MethodName) prog_21_method_4_code (3 : Nat) (Option.some Jvm.ClassFile.FieldType.boolean)) ∈ lw_all := lw_g (lw_at lw_m13 136 rfl) rfl
theorem q3120 : (Jvm.Cond.methodLink "FoldListerModel" (174 : Nat) ({ cls := "FoldListerModel", name := "layAll", desc := "()V" } : Jvm.MethodName)) ∈ lw_all := lw_g (lw_at lw_m13 137 rfl) rfl
theorem q3121 : (Jvm.Cond.privateMethod ({ cls := "FoldListerModel", name := "layAll", desc := "()V" } : Jvm.MethodName)) ∈ lw_tbl := lw_at lw_m13 138 rfl
theorem q3122 : (Jvm.Cond.instanceMethod ({ cls := "FoldListerModel", name := "layAll", desc := "()V" } : Jvm.MethodName)) ∈ lw_all := lw_g (lw_at lw_m13 139 rfl) rfl
theorem q3123 : (Jvm.Cond.code ({ cls := "FoldListerModel", name := "layAll", desc := "()V" } : Jvm.MethodName) prog_21_method_31_code (1 : Nat) (Option.none : Option Jvm.ClassFile.FieldType)) ∈ lw_all := lw_g (lw_at lw_m13 140 rfl) rfl
theorem q3124 : (Jvm.Cond.methodLink "FoldListerModel" (164 : Nat) ({ cls := "FoldListerModel", name := "lays", desc := "(II)V" } : Jvm.MethodName)) ∈ lw_all := lw_g (lw_at lw_m13 141 rfl) rfl
theorem q3125 : (Jvm.Cond.privateMethod ({ cls := "FoldListerModel", name := "lays", desc := "(II)V" } : Jvm.MethodName)) ∈ lw_tbl := lw_at lw_m13 142 rfl
theorem q3126 : (Jvm.Cond.instanceMethod ({ cls := "FoldListerModel", name := "lays", desc := "(II)V" } : Jvm.MethodName)) ∈ lw_all := lw_g (lw_at lw_m13 143 rfl) rfl
theorem q3127 : (Jvm.Cond.code ({ cls := "FoldListerModel", name := "lays", desc := "(II)V" } : Jvm.MethodName) prog_21_method_30_code (6 : Nat) (Option.none : Option Jvm.ClassFile.FieldType)) ∈ lw_all := lw_g (lw_at lw_m13 144 rfl) rfl
theorem q3128 : (Jvm.Cond.methodLink "FoldListerModel" (161 : Nat) ({ cls := "FoldListerModel", name := "laysRegions", desc := "()V" } : Jvm.MethodName)) ∈ lw_all := lw_g (lw_at lw_m13 145 rfl) rfl
theorem q3129 : (Jvm.Cond.privateMethod ({ cls := "FoldListerModel", name := "laysRegions", desc := "()V" } : Jvm.MethodName)) ∈ lw_tbl := lw_at lw_m13 146 rfl
theorem q3130 : (Jvm.Cond.instanceMethod ({ cls := "FoldListerModel", name := "laysRegions", desc := "()V" } : Jvm.MethodName)) ∈ lw_all := lw_g (lw_at lw_m13 147 rfl) rfl
theorem q3131 : (Jvm.Cond.code ({ cls := "FoldListerModel", name := "laysRegions", desc := "()V" } : Jvm.MethodName) prog_21_method_29_code (5 : Nat) (Option.none : Option Jvm.ClassFile.FieldType)) ∈ lw_all := lw_g (lw_at lw_m13 148 rfl) rfl
theorem q3132 : (Jvm.Cond.methodLink "FoldListerModel" (151 : Nat) ({ cls := "FoldListerModel", name := "laysMates", desc := "()V" } : Jvm.MethodName)) ∈ lw_all := lw_g (lw_at lw_m13 149 rfl) rfl
theorem q3133 : (Jvm.Cond.privateMethod ({ cls := "FoldListerModel", name := "laysMates", desc := "()V" } : Jvm.MethodName)) ∈ lw_tbl := lw_at lw_m13 150 rfl
theorem q3134 : (Jvm.Cond.instanceMethod ({ cls := "FoldListerModel", name := "laysMates", desc := "()V" } : Jvm.MethodName)) ∈ lw_all := lw_g (lw_at lw_m13 151 rfl) rfl
theorem q3135 : (Jvm.Cond.code ({ cls := "FoldListerModel", name := "laysMates", desc := "()V" } : Jvm.MethodName) prog_21_method_27_code (5 : Nat) (Option.none : Option Jvm.ClassFile.FieldType)) ∈ lw_all := lw_g (lw_at lw_m13 152 rfl) rfl
theorem q3136 : (Jvm.Cond.methodLink "FoldListerModel" (139 : Nat) ({ cls := "FoldListerModel", name := "length", desc := "(I)I" } : Jvm.MethodName)) ∈ lw_all := lw_g (lw_at lw_m13 153 rfl) rfl
theorem q3137 : (Jvm.Cond.privateMethod ({ cls := "FoldListerModel", name := "length", desc := "(I)I" } : Jvm.MethodName)) ∈ lw_tbl := lw_at lw_m13 154 rfl
theorem q3138 : (Jvm.Cond.instanceMethod ({ cls := "FoldListerModel", name := "length", desc := "(I)I" } : Jvm.MethodName)) ∈ lw_all := lw_g (lw_at lw_m13 155 rfl) rfl
theorem q3139 : (Jvm.Cond.code ({ cls := "FoldListerModel", name := "length", desc := "(I)I" } : Jvm.MethodName) prog_21_method_21_code (2 : Nat) (Option.some Jvm.ClassFile.FieldType.int)) ∈ lw_all := lw_g (lw_at lw_m13 156 rfl) rfl
theorem q3140 : (Jvm.Cond.methodLink "FoldListerModel" (129 : Nat) ({ cls := "FoldListerModel", name := "of", desc := "(II)I" } : Jvm.MethodName)) ∈ lw_all := lw_g (lw_at lw_m13 157 rfl) rfl
theorem q3141 : (Jvm.Cond.privateMethod ({ cls := "FoldListerModel", name := "of", desc := "(II)I" } : Jvm.MethodName)) ∈ lw_tbl := lw_at lw_m13 158 rfl
theorem q3142 : (Jvm.Cond.instanceMethod ({ cls := "FoldListerModel", name := "of", desc := "(II)I" } : Jvm.MethodName)) ∈ lw_all := lw_g (lw_at lw_m13 159 rfl) rfl
theorem q3143 : (Jvm.Cond.code ({ cls := "FoldListerModel", name := "of", desc := "(II)I" } : Jvm.MethodName) prog_21_method_20_code (3 : Nat) (Option.some Jvm.ClassFile.FieldType.int)) ∈ lw_all := lw_g (lw_at lw_m13 160 rfl) rfl
theorem q3144 : (Jvm.Cond.methodLink "FoldListerModel" (125 : Nat) ({ cls := "FoldListerModel", name := "lineAt", desc := "(I)I" } : Jvm.MethodName)) ∈ lw_all := lw_g (lw_at lw_m13 161 rfl) rfl
theorem q3145 : (Jvm.Cond.static ({ cls := "FoldListerModel", name := "lineAt", desc := "(I)I" } : Jvm.MethodName)) ∈ lw_all := lw_g (lw_at lw_m13 162 rfl) rfl
theorem q3146 : (Jvm.Cond.code ({ cls := "FoldListerModel", name := "lineAt", desc := "(I)I" } : Jvm.MethodName) prog_21_method_19_code (1 : Nat) (Option.some Jvm.ClassFile.FieldType.int)) ∈ lw_all := lw_g (lw_at lw_m13 163 rfl) rfl
theorem q3147 : (Jvm.Cond.methodLink "FoldListerModel" (142 : Nat) ({ cls := "FoldListerModel", name := "place", desc := "(II)I" } : Jvm.MethodName)) ∈ lw_all := lw_g (lw_at lw_m13 164 rfl) rfl
theorem q3148 : (Jvm.Cond.static ({ cls := "FoldListerModel", name := "place", desc := "(II)I" } : Jvm.MethodName)) ∈ lw_all := lw_g (lw_at lw_m13 165 rfl) rfl
theorem q3149 : (Jvm.Cond.code ({ cls := "FoldListerModel", name := "place", desc := "(II)I" } : Jvm.MethodName) prog_21_method_24_code (2 : Nat) (Option.some Jvm.ClassFile.FieldType.int)) ∈ lw_all := lw_g (lw_at lw_m13 166 rfl) rfl
theorem q3150 : (Jvm.Cond.methodLink "FoldListerModel" (133 : Nat) ({ cls := "FoldListerModel", name := "byteAt", desc := "(II)I" } : Jvm.MethodName)) ∈ lw_all := lw_g (lw_at lw_m13 167 rfl) rfl
theorem q3151 : (Jvm.Cond.privateMethod ({ cls := "FoldListerModel", name := "byteAt", desc := "(II)I" } : Jvm.MethodName)) ∈ lw_tbl := lw_at lw_m13 168 rfl
theorem q3152 : (Jvm.Cond.instanceMethod ({ cls := "FoldListerModel", name := "byteAt", desc := "(II)I" } : Jvm.MethodName)) ∈ lw_all := lw_g (lw_at lw_m13 169 rfl) rfl
theorem q3153 : (Jvm.Cond.code ({ cls := "FoldListerModel", name := "byteAt", desc := "(II)I" } : Jvm.MethodName) prog_21_method_22_code (3 : Nat) (Option.some Jvm.ClassFile.FieldType.int)) ∈ lw_all := lw_g (lw_at lw_m13 170 rfl) rfl
theorem q3154 : (Jvm.Cond.methodLink "FoldListerModel" (154 : Nat) ({ cls := "FoldListerModel", name := "isBracket", desc := "(II)Z" } : Jvm.MethodName)) ∈ lw_all := lw_g (lw_at lw_m13 171 rfl) rfl
theorem q3155 : (Jvm.Cond.privateMethod ({ cls := "FoldListerModel", name := "isBracket", desc := "(II)Z" } : Jvm.MethodName)) ∈ lw_tbl := lw_at lw_m13 172 rfl
theorem q3156 : (Jvm.Cond.instanceMethod ({ cls := "FoldListerModel", name := "isBracket", desc := "(II)Z" } : Jvm.MethodName)) ∈ lw_all := lw_g (lw_at lw_m13 173 rfl) rfl
theorem q3157 : (Jvm.Cond.code ({ cls := "FoldListerModel", name := "isBracket", desc := "(II)Z" } : Jvm.MethodName) prog_21_method_26_code (3 : Nat) (Option.some Jvm.ClassFile.FieldType.boolean)) ∈ lw_all := lw_g (lw_at lw_m13 174 rfl) rfl
theorem q3158 : (Jvm.Cond.methodLink "FoldListerModel" (148 : Nat) ({ cls := "FoldListerModel", name := "lineOf", desc := "(I)I" } : Jvm.MethodName)) ∈ lw_all := lw_g (lw_at lw_m13 175 rfl) rfl
theorem q3159 : (Jvm.Cond.static ({ cls := "FoldListerModel", name := "lineOf", desc := "(I)I" } : Jvm.MethodName)) ∈ lw_all := lw_g (lw_at lw_m13 176 rfl) rfl
theorem q3160 : (Jvm.Cond.code ({ cls := "FoldListerModel", name := "lineOf", desc := "(I)I" } : Jvm.MethodName) prog_21_method_25_code (1 : Nat) (Option.some Jvm.ClassFile.FieldType.int)) ∈ lw_all := lw_g (lw_at lw_m13 177 rfl) rfl
theorem q3161 : (Jvm.Cond.methodLink "FoldListerModel" (158 : Nat) ({ cls := "FoldListerModel", name := "opensRegion", desc := "(II)V" } : Jvm.MethodName)) ∈ lw_all := lw_g (lw_at lw_m13 178 rfl) rfl
theorem q3162 : (Jvm.Cond.privateMethod ({ cls := "FoldListerModel", name := "opensRegion", desc := "(II)V" } : Jvm.MethodName)) ∈ lw_tbl := lw_at lw_m13 179 rfl
theorem q3163 : (Jvm.Cond.instanceMethod ({ cls := "FoldListerModel", name := "opensRegion", desc := "(II)V" } : Jvm.MethodName)) ∈ lw_all := lw_g (lw_at lw_m13 180 rfl) rfl
theorem q3164 : (Jvm.Cond.code ({ cls := "FoldListerModel", name := "opensRegion", desc := "(II)V" } : Jvm.MethodName) prog_21_method_28_code (3 : Nat) (Option.none : Option Jvm.ClassFile.FieldType)) ∈ lw_all := lw_g (lw_at lw_m13 181 rfl) rfl
theorem q3165 : (Jvm.Cond.methodLink "FoldListerModel" (177 : Nat) ({ cls := "FoldListerModel", name := "rowOf", desc := "(I)I" } : Jvm.MethodName)) ∈ lw_all := lw_g (lw_at lw_m13 182 rfl) rfl
theorem q3166 : (Jvm.Cond.privateMethod ({ cls := "FoldListerModel", name := "rowOf", desc := "(I)I" } : Jvm.MethodName)) ∈ lw_tbl := lw_at lw_m13 183 rfl
theorem q3167 : (Jvm.Cond.instanceMethod ({ cls := "FoldListerModel", name := "rowOf", desc := "(I)I" } : Jvm.MethodName)) ∈ lw_all := lw_g (lw_at lw_m13 184 rfl) rfl
theorem q3168 : (Jvm.Cond.code ({ cls := "FoldListerModel", name := "rowOf", desc := "(I)I" } : Jvm.MethodName) prog_21_method_35_code (4 : Nat) (Option.some Jvm.ClassFile.FieldType.int)) ∈ lw_all := lw_g (lw_at lw_m13 185 rfl) rfl
theorem q3169 : (Jvm.Cond.methodLink "FoldListerModel" (180 : Nat) ({ cls := "FoldListerModel", name := "hiddenBehind", desc := "(I)I" } : Jvm.MethodName)) ∈ lw_all := lw_g (lw_at lw_m13 186 rfl) rfl
theorem q3170 : (Jvm.Cond.privateMethod ({ cls := "FoldListerModel", name := "hiddenBehind", desc := "(I)I" } : Jvm.MethodName)) ∈ lw_tbl := lw_at lw_m13 187 rfl
theorem q3171 : (Jvm.Cond.instanceMethod ({ cls := "FoldListerModel", name := "hiddenBehind", desc := "(I)I" } : Jvm.MethodName)) ∈ lw_all := lw_g (lw_at lw_m13 188 rfl) rfl
theorem q3172 : (Jvm.Cond.code ({ cls := "FoldListerModel", name := "hiddenBehind", desc := "(I)I" } : Jvm.MethodName) prog_21_method_36_code (3 : Nat) (Option.some Jvm.ClassFile.FieldType.int)) ∈ lw_all := lw_g (lw_at lw_m13 189 rfl) rfl
theorem q3173 : (Jvm.Cond.methodLink "FoldListerModel" (183 : Nat) ({ cls := "FoldListerModel", name := "markersOn", desc := "(I)I" } : Jvm.MethodName)) ∈ lw_all := lw_g (lw_at lw_m13 190 rfl) rfl
theorem q3174 : (Jvm.Cond.privateMethod ({ cls := "FoldListerModel", name := "markersOn", desc := "(I)I" } : Jvm.MethodName)) ∈ lw_tbl := lw_at lw_m13 191 rfl
theorem q3175 : (Jvm.Cond.instanceMethod ({ cls := "FoldListerModel", name := "markersOn", desc := "(I)I" } : Jvm.MethodName)) ∈ lw_all := lw_g (lw_at lw_m13 192 rfl) rfl
theorem q3176 : (Jvm.Cond.code ({ cls := "FoldListerModel", name := "markersOn", desc := "(I)I" } : Jvm.MethodName) prog_21_method_37_code (4 : Nat) (Option.some Jvm.ClassFile.FieldType.int)) ∈ lw_all := lw_g (lw_at lw_m13 193 rfl) rfl
theorem q3177 : (Jvm.Cond.methodLink "FoldListerModel" (186 : Nat) ({ cls := "FoldListerModel", name := "beginsAt", desc := "(I)I" } : Jvm.MethodName)) ∈ lw_all := lw_g (lw_at lw_m13 194 rfl) rfl
theorem q3178 : (Jvm.Cond.privateMethod ({ cls := "FoldListerModel", name := "beginsAt", desc := "(I)I" } : Jvm.MethodName)) ∈ lw_tbl := lw_at lw_m13 195 rfl
theorem q3179 : (Jvm.Cond.instanceMethod ({ cls := "FoldListerModel", name := "beginsAt", desc := "(I)I" } : Jvm.MethodName)) ∈ lw_all := lw_g (lw_at lw_m13 196 rfl) rfl
theorem q3180 : (Jvm.Cond.code ({ cls := "FoldListerModel", name := "beginsAt", desc := "(I)I" } : Jvm.MethodName) prog_21_method_38_code (4 : Nat) (Option.some Jvm.ClassFile.FieldType.int)) ∈ lw_all := lw_g (lw_at lw_m13 197 rfl) rfl
theorem q3181 : (Jvm.Cond.methodLink "FoldListerModel" (189 : Nat) ({ cls := "FoldListerModel", name := "blanks", desc := "(I)I" } : Jvm.MethodName)) ∈ lw_all := lw_g (lw_at lw_m13 198 rfl) rfl
theorem q3182 : (Jvm.Cond.privateMethod ({ cls := "FoldListerModel", name := "blanks", desc := "(I)I" } : Jvm.MethodName)) ∈ lw_tbl := lw_at lw_m13 199 rfl
theorem q3183 : (Jvm.Cond.instanceMethod ({ cls := "FoldListerModel", name := "blanks", desc := "(I)I" } : Jvm.MethodName)) ∈ lw_all := lw_g (lw_at lw_m13 200 rfl) rfl
theorem q3184 : (Jvm.Cond.code ({ cls := "FoldListerModel", name := "blanks", desc := "(I)I" } : Jvm.MethodName) prog_21_method_39_code (3 : Nat) (Option.some Jvm.ClassFile.FieldType.int)) ∈ lw_all := lw_g (lw_at lw_m13 201 rfl) rfl
theorem q3186 : (Jvm.Cond.instanceMethod ({ cls := "FoldListerModel", name := "byteOf", desc := "(II)I" } : Jvm.MethodName)) ∈ lw_all := lw_g (lw_at lw_m13 203 rfl) rfl
theorem q3187 : (Jvm.Cond.selects "FoldListerModel" ({ cls := "FoldListerModel", name := "byteOf", desc := "(II)I" } : Jvm.MethodName) ({ cls := "FoldListerModel", name := "byteOf", desc := "(II)I" } : Jvm.MethodName)) ∈ lw_all := lw_g (lw_at lw_m13 204 rfl) rfl
theorem q3188 : (Jvm.Cond.code ({ cls := "FoldListerModel", name := "byteOf", desc := "(II)I" } : Jvm.MethodName) prog_21_method_41_code (3 : Nat) (Option.some Jvm.ClassFile.FieldType.int)) ∈ lw_all := lw_g (lw_at lw_m13 205 rfl) rfl
theorem q3190 : (Jvm.Cond.instanceMethod ({ cls := "FoldListerModel", name := "lineOfKey", desc := "(I)I" } : Jvm.MethodName)) ∈ lw_all := lw_g (lw_at lw_m13 207 rfl) rfl
theorem q3191 : (Jvm.Cond.selects "FoldListerModel" ({ cls := "FoldListerModel", name := "lineOfKey", desc := "(I)I" } : Jvm.MethodName) ({ cls := "FoldListerModel", name := "lineOfKey", desc := "(I)I" } : Jvm.MethodName)) ∈ lw_all := lw_g (lw_at lw_m13 208 rfl) rfl
theorem q3192 : (Jvm.Cond.code ({ cls := "FoldListerModel", name := "lineOfKey", desc := "(I)I" } : Jvm.MethodName) prog_21_method_42_code (2 : Nat) (Option.some Jvm.ClassFile.FieldType.int)) ∈ lw_all := lw_g (lw_at lw_m13 209 rfl) rfl
theorem q3193 : (Jvm.Cond.methodLink "FoldListerModel" (192 : Nat) ({ cls := "FoldListerModel", name := "numberOf", desc := "(I)I" } : Jvm.MethodName)) ∈ lw_all := lw_g (lw_at lw_m13 210 rfl) rfl
theorem q3194 : (Jvm.Cond.privateMethod ({ cls := "FoldListerModel", name := "numberOf", desc := "(I)I" } : Jvm.MethodName)) ∈ lw_tbl := lw_at lw_m13 211 rfl
theorem q3195 : (Jvm.Cond.instanceMethod ({ cls := "FoldListerModel", name := "numberOf", desc := "(I)I" } : Jvm.MethodName)) ∈ lw_all := lw_g (lw_at lw_m13 212 rfl) rfl
theorem q3196 : (Jvm.Cond.code ({ cls := "FoldListerModel", name := "numberOf", desc := "(I)I" } : Jvm.MethodName) prog_21_method_23_code (3 : Nat) (Option.some Jvm.ClassFile.FieldType.int)) ∈ lw_all := lw_g (lw_at lw_m13 213 rfl) rfl
theorem q3198 : (Jvm.Cond.instanceMethod ({ cls := "FoldListerModel", name := "lineOfRow", desc := "(I)I" } : Jvm.MethodName)) ∈ lw_all := lw_g (lw_at lw_m13 215 rfl) rfl
theorem q3199 : (Jvm.Cond.selects "FoldListerModel" ({ cls := "FoldListerModel", name := "lineOfRow", desc := "(I)I" } : Jvm.MethodName) ({ cls := "FoldListerModel", name := "lineOfRow", desc := "(I)I" } : Jvm.MethodName)) ∈ lw_all := lw_g (lw_at lw_m13 216 rfl) rfl
theorem q3200 : (Jvm.Cond.code ({ cls := "FoldListerModel", name := "lineOfRow", desc := "(I)I" } : Jvm.MethodName) prog_21_method_44_code (2 : Nat) (Option.some Jvm.ClassFile.FieldType.int)) ∈ lw_all := lw_g (lw_at lw_m13 217 rfl) rfl
theorem q3201 : (Jvm.Cond.methodLink "FoldListerModel" (195 : Nat) ({ cls := "FoldListerModel", name := "shownMany", desc := "()I" } : Jvm.MethodName)) ∈ lw_all := lw_g (lw_at lw_m13 218 rfl) rfl
theorem q3202 : (Jvm.Cond.privateMethod ({ cls := "FoldListerModel", name := "shownMany", desc := "()I" } : Jvm.MethodName)) ∈ lw_tbl := lw_at lw_m13 219 rfl
theorem q3203 : (Jvm.Cond.instanceMethod ({ cls := "FoldListerModel", name := "shownMany", desc := "()I" } : Jvm.MethodName)) ∈ lw_all := lw_g (lw_at lw_m13 220 rfl) rfl
theorem q3204 : (Jvm.Cond.code ({ cls := "FoldListerModel", name := "shownMany", desc := "()I" } : Jvm.MethodName) prog_21_method_34_code (3 : Nat) (Option.some Jvm.ClassFile.FieldType.int)) ∈ lw_all := lw_g (lw_at lw_m13 221 rfl) rfl
theorem q3205 : (Jvm.Cond.methodLink "FoldListerModel" (198 : Nat) ({ cls := "FoldListerModel", name := "lineIn", desc := "(I)I" } : Jvm.MethodName)) ∈ lw_all := lw_g (lw_at lw_m13 222 rfl) rfl
theorem q3206 : (Jvm.Cond.privateMethod ({ cls := "FoldListerModel", name := "lineIn", desc := "(I)I" } : Jvm.MethodName)) ∈ lw_tbl := lw_at lw_m13 223 rfl
theorem q3207 : (Jvm.Cond.instanceMethod ({ cls := "FoldListerModel", name := "lineIn", desc := "(I)I" } : Jvm.MethodName)) ∈ lw_all := lw_g (lw_at lw_m13 224 rfl) rfl
theorem q3208 : (Jvm.Cond.code ({ cls := "FoldListerModel", name := "lineIn", desc := "(I)I" } : Jvm.MethodName) prog_21_method_43_code (3 : Nat) (Option.some Jvm.ClassFile.FieldType.int)) ∈ lw_all := lw_g (lw_at lw_m13 225 rfl) rfl
theorem q3210 : (Jvm.Cond.instanceMethod ({ cls := "FoldListerModel", name := "rowNear", desc := "(I)I" } : Jvm.MethodName)) ∈ lw_all := lw_g (lw_at lw_m13 227 rfl) rfl
theorem q3211 : (Jvm.Cond.selects "FoldListerModel" ({ cls := "FoldListerModel", name := "rowNear", desc := "(I)I" } : Jvm.MethodName) ({ cls := "FoldListerModel", name := "rowNear", desc := "(I)I" } : Jvm.MethodName)) ∈ lw_all := lw_g (lw_at lw_m13 228 rfl) rfl
theorem q3212 : (Jvm.Cond.code ({ cls := "FoldListerModel", name := "rowNear", desc := "(I)I" } : Jvm.MethodName) prog_21_method_45_code (2 : Nat) (Option.some Jvm.ClassFile.FieldType.int)) ∈ lw_all := lw_g (lw_at lw_m13 229 rfl) rfl
theorem q3214 : (Jvm.Cond.instanceMethod ({ cls := "FoldListerModel", name := "rowsBetween", desc := "(II)I" } : Jvm.MethodName)) ∈ lw_all := lw_g (lw_at lw_m13 231 rfl) rfl
theorem q3215 : (Jvm.Cond.selects "FoldListerModel" ({ cls := "FoldListerModel", name := "rowsBetween", desc := "(II)I" } : Jvm.MethodName) ({ cls := "FoldListerModel", name := "rowsBetween", desc := "(II)I" } : Jvm.MethodName)) ∈ lw_all := lw_g (lw_at lw_m13 232 rfl) rfl
theorem q3216 : (Jvm.Cond.code ({ cls := "FoldListerModel", name := "rowsBetween", desc := "(II)I" } : Jvm.MethodName) prog_21_method_46_code (5 : Nat) (Option.some Jvm.ClassFile.FieldType.int)) ∈ lw_all := lw_g (lw_at lw_m13 233 rfl) rfl
theorem q3217 : (Jvm.Cond.methodLink "FoldListerModel" (201 : Nat) ({ cls := "java/lang/Math", name := "min", desc := "(II)I" } : Jvm.MethodName)) ∈ lw_all := lw_g (lw_at lw_m13 234 rfl) rfl
theorem q3218 : (Jvm.Cond.methodLink "FoldListerModel" (206 : Nat) ({ cls := "java/lang/Math", name := "max", desc := "(II)I" } : Jvm.MethodName)) ∈ lw_all := lw_g (lw_at lw_m13 235 rfl) rfl
theorem q3220 : (Jvm.Cond.instanceMethod ({ cls := "FoldListerModel", name := "widest", desc := "()I" } : Jvm.MethodName)) ∈ lw_all := lw_g (lw_at lw_m13 237 rfl) rfl
theorem q3221 : (Jvm.Cond.selects "FoldListerModel" ({ cls := "FoldListerModel", name := "widest", desc := "()I" } : Jvm.MethodName) ({ cls := "FoldListerModel", name := "widest", desc := "()I" } : Jvm.MethodName)) ∈ lw_all := lw_g (lw_at lw_m13 238 rfl) rfl
theorem q3222 : (Jvm.Cond.code ({ cls := "FoldListerModel", name := "widest", desc := "()I" } : Jvm.MethodName) prog_21_method_47_code (3 : Nat) (Option.some Jvm.ClassFile.FieldType.int)) ∈ lw_all := lw_g (lw_at lw_m13 239 rfl) rfl
theorem q3224 : (Jvm.Cond.instanceMethod ({ cls := "FoldListerModel", name := "seek", desc := "(IIZ)I" } : Jvm.MethodName)) ∈ lw_all := lw_g (lw_at lw_m14 1 rfl) rfl
theorem q3225 : (Jvm.Cond.selects "FoldListerModel" ({ cls := "FoldListerModel", name := "seek", desc := "(IIZ)I" } : Jvm.MethodName) ({ cls := "FoldListerModel", name := "seek", desc := "(IIZ)I" } : Jvm.MethodName)) ∈ lw_all := lw_g (lw_at lw_m14 2 rfl) rfl
theorem q3226 : (Jvm.Cond.code ({ cls := "FoldListerModel", name := "seek", desc := "(IIZ)I" } : Jvm.MethodName) prog_21_method_50_code (6 : Nat) (Option.some Jvm.ClassFile.FieldType.int)) ∈ lw_all := lw_g (lw_at lw_m14 3 rfl) rfl
theorem q3227 : (Jvm.Cond.methodLink "FoldListerModel" (212 : Nat) ({ cls := "FoldListerModel", name := "has", desc := "(II)Z" } : Jvm.MethodName)) ∈ lw_all := lw_g (lw_at lw_m14 4 rfl) rfl
theorem q3228 : (Jvm.Cond.privateMethod ({ cls := "FoldListerModel", name := "has", desc := "(II)Z" } : Jvm.MethodName)) ∈ lw_tbl := lw_at lw_m14 5 rfl
theorem q3229 : (Jvm.Cond.instanceMethod ({ cls := "FoldListerModel", name := "has", desc := "(II)Z" } : Jvm.MethodName)) ∈ lw_all := lw_g (lw_at lw_m14 6 rfl) rfl
theorem q3230 : (Jvm.Cond.code ({ cls := "FoldListerModel", name := "has", desc := "(II)Z" } : Jvm.MethodName) prog_21_method_49_code (4 : Nat) (Option.some Jvm.ClassFile.FieldType.boolean)) ∈ lw_all := lw_g (lw_at lw_m14 7 rfl) rfl
theorem q3231 : (Jvm.Cond.methodLink "FoldListerModel" (209 : Nat) ({ cls := "FoldListerModel", name := "hasAt", desc := "(III)Z" } : Jvm.MethodName)) ∈ lw_all := lw_g (lw_at lw_m14 8 rfl) rfl
theorem q3232 : (Jvm.Cond.privateMethod ({ cls := "FoldListerModel", name := "hasAt", desc := "(III)Z" } : Jvm.MethodName)) ∈ lw_tbl := lw_at lw_m14 9 rfl
theorem q3233 : (Jvm.Cond.instanceMethod ({ cls := "FoldListerModel", name := "hasAt", desc := "(III)Z" } : Jvm.MethodName)) ∈ lw_all := lw_g (lw_at lw_m14 10 rfl) rfl
theorem q3234 : (Jvm.Cond.code ({ cls := "FoldListerModel", name := "hasAt", desc := "(III)Z" } : Jvm.MethodName) prog_21_method_48_code (5 : Nat) (Option.some Jvm.ClassFile.FieldType.boolean)) ∈ lw_all := lw_g (lw_at lw_m14 11 rfl) rfl
theorem q3236 : (Jvm.Cond.instanceMethod ({ cls := "FoldListerModel", name := "meanLength", desc := "()D" } : Jvm.MethodName)) ∈ lw_all := lw_g (lw_at lw_m14 13 rfl) rfl
theorem q3237 : (Jvm.Cond.selects "FoldListerModel" ({ cls := "FoldListerModel", name := "meanLength", desc := "()D" } : Jvm.MethodName) ({ cls := "FoldListerModel", name := "meanLength", desc := "()D" } : Jvm.MethodName)) ∈ lw_all := lw_g (lw_at lw_m14 14 rfl) rfl
theorem q3238 : (Jvm.Cond.code ({ cls := "FoldListerModel", name := "meanLength", desc := "()D" } : Jvm.MethodName) prog_21_method_51_code (3 : Nat) (Option.some Jvm.ClassFile.FieldType.double)) ∈ lw_all := lw_g (lw_at lw_m14 15 rfl) rfl
theorem q3240 : (Jvm.Cond.instanceMethod ({ cls := "FoldListerModel", name := "shownShare", desc := "()F" } : Jvm.MethodName)) ∈ lw_all := lw_g (lw_at lw_m14 17 rfl) rfl
theorem q3241 : (Jvm.Cond.selects "FoldListerModel" ({ cls := "FoldListerModel", name := "shownShare", desc := "()F" } : Jvm.MethodName) ({ cls := "FoldListerModel", name := "shownShare", desc := "()F" } : Jvm.MethodName)) ∈ lw_all := lw_g (lw_at lw_m14 18 rfl) rfl
theorem q3242 : (Jvm.Cond.code ({ cls := "FoldListerModel", name := "shownShare", desc := "()F" } : Jvm.MethodName) prog_21_method_52_code (1 : Nat) (Option.some Jvm.ClassFile.FieldType.float)) ∈ lw_all := lw_g (lw_at lw_m14 19 rfl) rfl
theorem q3244 : (Jvm.Cond.instanceMethod ({ cls := "FoldListerModel", name := "count", desc := "(I)I" } : Jvm.MethodName)) ∈ lw_all := lw_g (lw_at lw_m14 21 rfl) rfl
theorem q3245 : (Jvm.Cond.selects "FoldListerModel" ({ cls := "FoldListerModel", name := "count", desc := "(I)I" } : Jvm.MethodName) ({ cls := "FoldListerModel", name := "count", desc := "(I)I" } : Jvm.MethodName)) ∈ lw_all := lw_g (lw_at lw_m14 22 rfl) rfl
theorem q3246 : (Jvm.Cond.code ({ cls := "FoldListerModel", name := "count", desc := "(I)I" } : Jvm.MethodName) prog_21_method_57_code (2 : Nat) (Option.some Jvm.ClassFile.FieldType.int)) ∈ lw_all := lw_g (lw_at lw_m14 23 rfl) rfl
theorem q3247 : (Jvm.Cond.methodLink "FoldListerModel" (224 : Nat) ({ cls := "FoldListerModel", name := "foldedMany", desc := "()I" } : Jvm.MethodName)) ∈ lw_all := lw_g (lw_at lw_m14 24 rfl) rfl
theorem q3248 : (Jvm.Cond.privateMethod ({ cls := "FoldListerModel", name := "foldedMany", desc := "()I" } : Jvm.MethodName)) ∈ lw_tbl := lw_at lw_m14 25 rfl
theorem q3249 : (Jvm.Cond.instanceMethod ({ cls := "FoldListerModel", name := "foldedMany", desc := "()I" } : Jvm.MethodName)) ∈ lw_all := lw_g (lw_at lw_m14 26 rfl) rfl
theorem q3250 : (Jvm.Cond.code ({ cls := "FoldListerModel", name := "foldedMany", desc := "()I" } : Jvm.MethodName) prog_21_method_53_code (3 : Nat) (Option.some Jvm.ClassFile.FieldType.int)) ∈ lw_all := lw_g (lw_at lw_m14 27 rfl) rfl
theorem q3251 : (Jvm.Cond.methodLink "FoldListerModel" (215 : Nat) ({ cls := "FoldListerModel", name := "isFolded", desc := "(I)Z" } : Jvm.MethodName)) ∈ lw_all := lw_g (lw_at lw_m14 28 rfl) rfl
theorem q3252 : (Jvm.Cond.privateMethod ({ cls := "FoldListerModel", name := "isFolded", desc := "(I)Z" } : Jvm.MethodName)) ∈ lw_tbl := lw_at lw_m14 29 rfl
theorem q3253 : (Jvm.Cond.instanceMethod ({ cls := "FoldListerModel", name := "isFolded", desc := "(I)Z" } : Jvm.MethodName)) ∈ lw_all := lw_g (lw_at lw_m14 30 rfl) rfl
theorem q3254 : (Jvm.Cond.code ({ cls := "FoldListerModel", name := "isFolded", desc := "(I)Z" } : Jvm.MethodName) prog_21_method_32_code (2 : Nat) (Option.some Jvm.ClassFile.FieldType.boolean)) ∈ lw_all := lw_g (lw_at lw_m14 31 rfl) rfl
theorem q3255 : (Jvm.Cond.methodLink "FoldListerModel" (227 : Nat) ({ cls := "FoldListerModel", name := "markersOnMany", desc := "()I" } : Jvm.MethodName)) ∈ lw_all := lw_g (lw_at lw_m14 32 rfl) rfl
theorem q3256 : (Jvm.Cond.privateMethod ({ cls := "FoldListerModel", name := "markersOnMany", desc := "()I" } : Jvm.MethodName)) ∈ lw_tbl := lw_at lw_m14 33 rfl
theorem q3257 : (Jvm.Cond.instanceMethod ({ cls := "FoldListerModel", name := "markersOnMany", desc := "()I" } : Jvm.MethodName)) ∈ lw_all := lw_g (lw_at lw_m14 34 rfl) rfl
theorem q3258 : (Jvm.Cond.code ({ cls := "FoldListerModel", name := "markersOnMany", desc := "()I" } : Jvm.MethodName) prog_21_method_54_code (3 : Nat) (Option.some Jvm.ClassFile.FieldType.int)) ∈ lw_all := lw_g (lw_at lw_m14 35 rfl) rfl
theorem q3259 : (Jvm.Cond.methodLink "FoldListerModel" (230 : Nat) ({ cls := "FoldListerModel", name := "labelsMany", desc := "()I" } : Jvm.MethodName)) ∈ lw_all := lw_g (lw_at lw_m14 36 rfl) rfl
theorem q3260 : (Jvm.Cond.privateMethod ({ cls := "FoldListerModel", name := "labelsMany", desc := "()I" } : Jvm.MethodName)) ∈ lw_tbl := lw_at lw_m14 37 rfl
theorem q3261 : (Jvm.Cond.instanceMethod ({ cls := "FoldListerModel", name := "labelsMany", desc := "()I" } : Jvm.MethodName)) ∈ lw_all := lw_g (lw_at lw_m14 38 rfl) rfl
theorem q3262 : (Jvm.Cond.code ({ cls := "FoldListerModel", name := "labelsMany", desc := "()I" } : Jvm.MethodName) prog_21_method_55_code (3 : Nat) (Option.some Jvm.ClassFile.FieldType.int)) ∈ lw_all := lw_g (lw_at lw_m14 39 rfl) rfl
theorem q3263 : (Jvm.Cond.methodLink "FoldListerModel" (218 : Nat) ({ cls := "FoldListerModel", name := "labelOf", desc := "(I)I" } : Jvm.MethodName)) ∈ lw_all := lw_g (lw_at lw_m14 40 rfl) rfl
theorem q3264 : (Jvm.Cond.privateMethod ({ cls := "FoldListerModel", name := "labelOf", desc := "(I)I" } : Jvm.MethodName)) ∈ lw_tbl := lw_at lw_m14 41 rfl
theorem q3265 : (Jvm.Cond.instanceMethod ({ cls := "FoldListerModel", name := "labelOf", desc := "(I)I" } : Jvm.MethodName)) ∈ lw_all := lw_g (lw_at lw_m14 42 rfl) rfl
theorem q3266 : (Jvm.Cond.code ({ cls := "FoldListerModel", name := "labelOf", desc := "(I)I" } : Jvm.MethodName) prog_21_method_71_code (4 : Nat) (Option.some Jvm.ClassFile.FieldType.int)) ∈ lw_all := lw_g (lw_at lw_m14 43 rfl) rfl
theorem q3267 : (Jvm.Cond.methodLink "FoldListerModel" (248 : Nat) ({ cls := "FoldListerModel", name := "isLetter", desc := "(I)Z" } : Jvm.MethodName)) ∈ lw_all := lw_g (lw_at lw_m14 44 rfl) rfl
theorem q3268 : (Jvm.Cond.static ({ cls := "FoldListerModel", name := "isLetter", desc := "(I)Z" } : Jvm.MethodName)) ∈ lw_all := lw_g (lw_at lw_m14 45 rfl) rfl
theorem q3269 : (Jvm.Cond.code ({ cls := "FoldListerModel", name := "isLetter", desc := "(I)Z" } : Jvm.MethodName) prog_21_method_70_code (1 : Nat) (Option.some Jvm.ClassFile.FieldType.boolean)) ∈ lw_all := lw_g (lw_at lw_m14 46 rfl) rfl
theorem q3270 : (Jvm.Cond.methodLink "FoldListerModel" (233 : Nat) ({ cls := "FoldListerModel", name := "referencesMany", desc := "()I" } : Jvm.MethodName)) ∈ lw_all := lw_g (lw_at lw_m14 47 rfl) rfl
theorem q3271 : (Jvm.Cond.privateMethod ({ cls := "FoldListerModel", name := "referencesMany", desc := "()I" } : Jvm.MethodName)) ∈ lw_tbl := lw_at lw_m14 48 rfl
theorem q3272 : (Jvm.Cond.instanceMethod ({ cls := "FoldListerModel", name := "referencesMany", desc := "()I" } : Jvm.MethodName)) ∈ lw_all := lw_g (lw_at lw_m14 49 rfl) rfl
theorem q3273 : (Jvm.Cond.code ({ cls := "FoldListerModel", name := "referencesMany", desc := "()I" } : Jvm.MethodName) prog_21_method_56_code (3 : Nat) (Option.some Jvm.ClassFile.FieldType.int)) ∈ lw_all := lw_g (lw_at lw_m14 50 rfl) rfl
theorem q3274 : (Jvm.Cond.methodLink "FoldListerModel" (221 : Nat) ({ cls := "FoldListerModel", name := "referenceAt", desc := "(I)I" } : Jvm.MethodName)) ∈ lw_all := lw_g (lw_at lw_m14 51 rfl) rfl
theorem q3275 : (Jvm.Cond.privateMethod ({ cls := "FoldListerModel", name := "referenceAt", desc := "(I)I" } : Jvm.MethodName)) ∈ lw_tbl := lw_at lw_m14 52 rfl
theorem q3276 : (Jvm.Cond.instanceMethod ({ cls := "FoldListerModel", name := "referenceAt", desc := "(I)I" } : Jvm.MethodName)) ∈ lw_all := lw_g (lw_at lw_m14 53 rfl) rfl
theorem q3277 : (Jvm.Cond.code ({ cls := "FoldListerModel", name := "referenceAt", desc := "(I)I" } : Jvm.MethodName) prog_21_method_72_code (3 : Nat) (Option.some Jvm.ClassFile.FieldType.int)) ∈ lw_all := lw_g (lw_at lw_m14 54 rfl) rfl
theorem q3279 : (Jvm.Cond.instanceMethod ({ cls := "FoldListerModel", name := "region", desc := "(II)I" } : Jvm.MethodName)) ∈ lw_all := lw_g (lw_at lw_m14 56 rfl) rfl
theorem q3280 : (Jvm.Cond.selects "FoldListerModel" ({ cls := "FoldListerModel", name := "region", desc := "(II)I" } : Jvm.MethodName) ({ cls := "FoldListerModel", name := "region", desc := "(II)I" } : Jvm.MethodName)) ∈ lw_all := lw_g (lw_at lw_m14 57 rfl) rfl
theorem q3281 : (Jvm.Cond.code ({ cls := "FoldListerModel", name := "region", desc := "(II)I" } : Jvm.MethodName) prog_21_method_58_code (3 : Nat) (Option.some Jvm.ClassFile.FieldType.int)) ∈ lw_all := lw_g (lw_at lw_m14 58 rfl) rfl
theorem q3283 : (Jvm.Cond.instanceMethod ({ cls := "FoldListerModel", name := "regionAt", desc := "(I)I" } : Jvm.MethodName)) ∈ lw_all := lw_g (lw_at lw_m14 60 rfl) rfl
theorem q3284 : (Jvm.Cond.selects "FoldListerModel" ({ cls := "FoldListerModel", name := "regionAt", desc := "(I)I" } : Jvm.MethodName) ({ cls := "FoldListerModel", name := "regionAt", desc := "(I)I" } : Jvm.MethodName)) ∈ lw_all := lw_g (lw_at lw_m14 61 rfl) rfl
theorem q3285 : (Jvm.Cond.code ({ cls := "FoldListerModel", name := "regionAt", desc := "(I)I" } : Jvm.MethodName) prog_21_method_59_code (2 : Nat) (Option.some Jvm.ClassFile.FieldType.int)) ∈ lw_all := lw_g (lw_at lw_m14 62 rfl) rfl
theorem q3286 : (Jvm.Cond.methodLink "FoldListerModel" (236 : Nat) ({ cls := "FoldListerModel", name := "innermost", desc := "(I)I" } : Jvm.MethodName)) ∈ lw_all := lw_g (lw_at lw_m14 63 rfl) rfl
theorem q3287 : (Jvm.Cond.privateMethod ({ cls := "FoldListerModel", name := "innermost", desc := "(I)I" } : Jvm.MethodName)) ∈ lw_tbl := lw_at lw_m14 64 rfl
theorem q3288 : (Jvm.Cond.instanceMethod ({ cls := "FoldListerModel", name := "innermost", desc := "(I)I" } : Jvm.MethodName)) ∈ lw_all := lw_g (lw_at lw_m14 65 rfl) rfl
theorem q3289 : (Jvm.Cond.code ({ cls := "FoldListerModel", name := "innermost", desc := "(I)I" } : Jvm.MethodName) prog_21_method_60_code (4 : Nat) (Option.some Jvm.ClassFile.FieldType.int)) ∈ lw_all := lw_g (lw_at lw_m14 66 rfl) rfl
theorem q3290 : (Jvm.Cond.methodLink "FoldListerModel" (239 : Nat) ({ cls := "FoldListerModel", name := "isInside", desc := "(II)Z" } : Jvm.MethodName)) ∈ lw_all := lw_g (lw_at lw_m14 67 rfl) rfl
theorem q3291 : (Jvm.Cond.privateMethod ({ cls := "FoldListerModel", name := "isInside", desc := "(II)Z" } : Jvm.MethodName)) ∈ lw_tbl := lw_at lw_m14 68 rfl
theorem q3292 : (Jvm.Cond.instanceMethod ({ cls := "FoldListerModel", name := "isInside", desc := "(II)Z" } : Jvm.MethodName)) ∈ lw_all := lw_g (lw_at lw_m14 69 rfl) rfl
theorem q3293 : (Jvm.Cond.code ({ cls := "FoldListerModel", name := "isInside", desc := "(II)Z" } : Jvm.MethodName) prog_21_method_33_code (3 : Nat) (Option.some Jvm.ClassFile.FieldType.boolean)) ∈ lw_all := lw_g (lw_at lw_m14 70 rfl) rfl
theorem q3295 : (Jvm.Cond.instanceMethod ({ cls := "FoldListerModel", name := "hiddenBy", desc := "(I)I" } : Jvm.MethodName)) ∈ lw_all := lw_g (lw_at lw_m14 72 rfl) rfl
theorem q3296 : (Jvm.Cond.selects "FoldListerModel" ({ cls := "FoldListerModel", name := "hiddenBy", desc := "(I)I" } : Jvm.MethodName) ({ cls := "FoldListerModel", name := "hiddenBy", desc := "(I)I" } : Jvm.MethodName)) ∈ lw_all := lw_g (lw_at lw_m14 73 rfl) rfl
theorem q3297 : (Jvm.Cond.code ({ cls := "FoldListerModel", name := "hiddenBy", desc := "(I)I" } : Jvm.MethodName) prog_21_method_61_code (4 : Nat) (Option.some Jvm.ClassFile.FieldType.int)) ∈ lw_all := lw_g (lw_at lw_m14 74 rfl) rfl
theorem q3299 : (Jvm.Cond.instanceMethod ({ cls := "FoldListerModel", name := "partner", desc := "(II)I" } : Jvm.MethodName)) ∈ lw_all := lw_g (lw_at lw_m14 76 rfl) rfl
theorem q3300 : (Jvm.Cond.selects "FoldListerModel" ({ cls := "FoldListerModel", name := "partner", desc := "(II)I" } : Jvm.MethodName) ({ cls := "FoldListerModel", name := "partner", desc := "(II)I" } : Jvm.MethodName)) ∈ lw_all := lw_g (lw_at lw_m14 77 rfl) rfl
theorem q3301 : (Jvm.Cond.code ({ cls := "FoldListerModel", name := "partner", desc := "(II)I" } : Jvm.MethodName) prog_21_method_63_code (5 : Nat) (Option.some Jvm.ClassFile.FieldType.int)) ∈ lw_all := lw_g (lw_at lw_m14 78 rfl) rfl
theorem q3302 : (Jvm.Cond.methodLink "FoldListerModel" (242 : Nat) ({ cls := "FoldListerModel", name := "told", desc := "(I)I" } : Jvm.MethodName)) ∈ lw_all := lw_g (lw_at lw_m14 79 rfl) rfl
theorem q3303 : (Jvm.Cond.static ({ cls := "FoldListerModel", name := "told", desc := "(I)I" } : Jvm.MethodName)) ∈ lw_all := lw_g (lw_at lw_m14 80 rfl) rfl
theorem q3304 : (Jvm.Cond.code ({ cls := "FoldListerModel", name := "told", desc := "(I)I" } : Jvm.MethodName) prog_21_method_62_code (1 : Nat) (Option.some Jvm.ClassFile.FieldType.int)) ∈ lw_all := lw_g (lw_at lw_m14 81 rfl) rfl
theorem q3306 : (Jvm.Cond.instanceMethod ({ cls := "FoldListerModel", name := "loose", desc := "(I)I" } : Jvm.MethodName)) ∈ lw_all := lw_g (lw_at lw_m14 83 rfl) rfl
theorem q3307 : (Jvm.Cond.selects "FoldListerModel" ({ cls := "FoldListerModel", name := "loose", desc := "(I)I" } : Jvm.MethodName) ({ cls := "FoldListerModel", name := "loose", desc := "(I)I" } : Jvm.MethodName)) ∈ lw_all := lw_g (lw_at lw_m14 84 rfl) rfl
theorem q3308 : (Jvm.Cond.code ({ cls := "FoldListerModel", name := "loose", desc := "(I)I" } : Jvm.MethodName) prog_21_method_64_code (5 : Nat) (Option.some Jvm.ClassFile.FieldType.int)) ∈ lw_all := lw_g (lw_at lw_m14 85 rfl) rfl
theorem q3310 : (Jvm.Cond.instanceMethod ({ cls := "FoldListerModel", name := "deepest", desc := "()I" } : Jvm.MethodName)) ∈ lw_all := lw_g (lw_at lw_m14 87 rfl) rfl
theorem q3311 : (Jvm.Cond.selects "FoldListerModel" ({ cls := "FoldListerModel", name := "deepest", desc := "()I" } : Jvm.MethodName) ({ cls := "FoldListerModel", name := "deepest", desc := "()I" } : Jvm.MethodName)) ∈ lw_all := lw_g (lw_at lw_m14 88 rfl) rfl
theorem q3312 : (Jvm.Cond.code ({ cls := "FoldListerModel", name := "deepest", desc := "()I" } : Jvm.MethodName) prog_21_method_65_code (3 : Nat) (Option.some Jvm.ClassFile.FieldType.int)) ∈ lw_all := lw_g (lw_at lw_m14 89 rfl) rfl
theorem q3314 : (Jvm.Cond.instanceMethod ({ cls := "FoldListerModel", name := "outline", desc := "(II)I" } : Jvm.MethodName)) ∈ lw_all := lw_g (lw_at lw_m14 91 rfl) rfl
theorem q3315 : (Jvm.Cond.selects "FoldListerModel" ({ cls := "FoldListerModel", name := "outline", desc := "(II)I" } : Jvm.MethodName) ({ cls := "FoldListerModel", name := "outline", desc := "(II)I" } : Jvm.MethodName)) ∈ lw_all := lw_g (lw_at lw_m14 92 rfl) rfl
theorem q3316 : (Jvm.Cond.code ({ cls := "FoldListerModel", name := "outline", desc := "(II)I" } : Jvm.MethodName) prog_21_method_66_code (5 : Nat) (Option.some Jvm.ClassFile.FieldType.int)) ∈ lw_all := lw_g (lw_at lw_m14 93 rfl) rfl
theorem q3318 : (Jvm.Cond.instanceMethod ({ cls := "FoldListerModel", name := "marker", desc := "(I)I" } : Jvm.MethodName)) ∈ lw_all := lw_g (lw_at lw_m14 95 rfl) rfl
theorem q3319 : (Jvm.Cond.selects "FoldListerModel" ({ cls := "FoldListerModel", name := "marker", desc := "(I)I" } : Jvm.MethodName) ({ cls := "FoldListerModel", name := "marker", desc := "(I)I" } : Jvm.MethodName)) ∈ lw_all := lw_g (lw_at lw_m14 96 rfl) rfl
theorem q3320 : (Jvm.Cond.code ({ cls := "FoldListerModel", name := "marker", desc := "(I)I" } : Jvm.MethodName) prog_21_method_68_code (2 : Nat) (Option.some Jvm.ClassFile.FieldType.int)) ∈ lw_all := lw_g (lw_at lw_m14 97 rfl) rfl
theorem q3321 : (Jvm.Cond.methodLink "FoldListerModel" (245 : Nat) ({ cls := "FoldListerModel", name := "isMarker", desc := "(I)Z" } : Jvm.MethodName)) ∈ lw_all := lw_g (lw_at lw_m14 98 rfl) rfl
theorem q3322 : (Jvm.Cond.static ({ cls := "FoldListerModel", name := "isMarker", desc := "(I)Z" } : Jvm.MethodName)) ∈ lw_all := lw_g (lw_at lw_m14 99 rfl) rfl
theorem q3323 : (Jvm.Cond.code ({ cls := "FoldListerModel", name := "isMarker", desc := "(I)Z" } : Jvm.MethodName) prog_21_method_67_code (1 : Nat) (Option.some Jvm.ClassFile.FieldType.boolean)) ∈ lw_all := lw_g (lw_at lw_m14 100 rfl) rfl
theorem q3325 : (Jvm.Cond.instanceMethod ({ cls := "FoldListerModel", name := "nextMarked", desc := "(IZ)I" } : Jvm.MethodName)) ∈ lw_all := lw_g (lw_at lw_m14 102 rfl) rfl
theorem q3326 : (Jvm.Cond.selects "FoldListerModel" ({ cls := "FoldListerModel", name := "nextMarked", desc := "(IZ)I" } : Jvm.MethodName) ({ cls := "FoldListerModel", name := "nextMarked", desc := "(IZ)I" } : Jvm.MethodName)) ∈ lw_all := lw_g (lw_at lw_m14 103 rfl) rfl
theorem q3327 : (Jvm.Cond.code ({ cls := "FoldListerModel", name := "nextMarked", desc := "(IZ)I" } : Jvm.MethodName) prog_21_method_69_code (6 : Nat) (Option.some Jvm.ClassFile.FieldType.int)) ∈ lw_all := lw_g (lw_at lw_m14 104 rfl) rfl
theorem q3329 : (Jvm.Cond.instanceMethod ({ cls := "FoldListerModel", name := "labelled", desc := "(I)I" } : Jvm.MethodName)) ∈ lw_all := lw_g (lw_at lw_m14 106 rfl) rfl
theorem q3330 : (Jvm.Cond.selects "FoldListerModel" ({ cls := "FoldListerModel", name := "labelled", desc := "(I)I" } : Jvm.MethodName) ({ cls := "FoldListerModel", name := "labelled", desc := "(I)I" } : Jvm.MethodName)) ∈ lw_all := lw_g (lw_at lw_m14 107 rfl) rfl
theorem q3331 : (Jvm.Cond.code ({ cls := "FoldListerModel", name := "labelled", desc := "(I)I" } : Jvm.MethodName) prog_21_method_76_code (3 : Nat) (Option.some Jvm.ClassFile.FieldType.int)) ∈ lw_all := lw_g (lw_at lw_m14 108 rfl) rfl
theorem q3333 : (Jvm.Cond.instanceMethod ({ cls := "FoldListerModel", name := "labelLength", desc := "(I)I" } : Jvm.MethodName)) ∈ lw_all := lw_g (lw_at lw_m14 110 rfl) rfl
theorem q3334 : (Jvm.Cond.selects "FoldListerModel" ({ cls := "FoldListerModel", name := "labelLength", desc := "(I)I" } : Jvm.MethodName) ({ cls := "FoldListerModel", name := "labelLength", desc := "(I)I" } : Jvm.MethodName)) ∈ lw_all := lw_g (lw_at lw_m14 111 rfl) rfl
theorem q3335 : (Jvm.Cond.code ({ cls := "FoldListerModel", name := "labelLength", desc := "(I)I" } : Jvm.MethodName) prog_21_method_77_code (2 : Nat) (Option.some Jvm.ClassFile.FieldType.int)) ∈ lw_all := lw_g (lw_at lw_m14 112 rfl) rfl
theorem q3337 : (Jvm.Cond.instanceMethod ({ cls := "FoldListerModel", name := "target", desc := "(I)I" } : Jvm.MethodName)) ∈ lw_all := lw_g (lw_at lw_m14 114 rfl) rfl
theorem q3338 : (Jvm.Cond.selects "FoldListerModel" ({ cls := "FoldListerModel", name := "target", desc := "(I)I" } : Jvm.MethodName) ({ cls := "FoldListerModel", name := "target", desc := "(I)I" } : Jvm.MethodName)) ∈ lw_all := lw_g (lw_at lw_m14 115 rfl) rfl
theorem q3339 : (Jvm.Cond.code ({ cls := "FoldListerModel", name := "target", desc := "(I)I" } : Jvm.MethodName) prog_21_method_78_code (2 : Nat) (Option.some Jvm.ClassFile.FieldType.int)) ∈ lw_all := lw_g (lw_at lw_m14 116 rfl) rfl
theorem q3340 : (Jvm.Cond.methodLink "FoldListerModel" (257 : Nat) ({ cls := "FoldListerModel", name := "targetOf", desc := "(I)I" } : Jvm.MethodName)) ∈ lw_all := lw_g (lw_at lw_m14 117 rfl) rfl
theorem q3341 : (Jvm.Cond.privateMethod ({ cls := "FoldListerModel", name := "targetOf", desc := "(I)I" } : Jvm.MethodName)) ∈ lw_tbl := lw_at lw_m14 118 rfl
theorem q3342 : (Jvm.Cond.instanceMethod ({ cls := "FoldListerModel", name := "targetOf", desc := "(I)I" } : Jvm.MethodName)) ∈ lw_all := lw_g (lw_at lw_m14 119 rfl) rfl
theorem q3343 : (Jvm.Cond.code ({ cls := "FoldListerModel", name := "targetOf", desc := "(I)I" } : Jvm.MethodName) prog_21_method_75_code (3 : Nat) (Option.some Jvm.ClassFile.FieldType.int)) ∈ lw_all := lw_g (lw_at lw_m14 120 rfl) rfl
theorem q3344 : (Jvm.Cond.methodLink "FoldListerModel" (254 : Nat) ({ cls := "FoldListerModel", name := "leadsTo", desc := "(I)I" } : Jvm.MethodName)) ∈ lw_all := lw_g (lw_at lw_m14 121 rfl) rfl
theorem q3345 : (Jvm.Cond.privateMethod ({ cls := "FoldListerModel", name := "leadsTo", desc := "(I)I" } : Jvm.MethodName)) ∈ lw_tbl := lw_at lw_m14 122 rfl
theorem q3346 : (Jvm.Cond.instanceMethod ({ cls := "FoldListerModel", name := "leadsTo", desc := "(I)I" } : Jvm.MethodName)) ∈ lw_all := lw_g (lw_at lw_m14 123 rfl) rfl
theorem q3347 : (Jvm.Cond.code ({ cls := "FoldListerModel", name := "leadsTo", desc := "(I)I" } : Jvm.MethodName) prog_21_method_74_code (7 : Nat) (Option.some Jvm.ClassFile.FieldType.int)) ∈ lw_all := lw_g (lw_at lw_m14 124 rfl) rfl
theorem q3348 : (Jvm.Cond.methodLink "FoldListerModel" (251 : Nat) ({ cls := "FoldListerModel", name := "referenceLength", desc := "(I)I" } : Jvm.MethodName)) ∈ lw_all := lw_g (lw_at lw_m14 125 rfl) rfl
theorem q3349 : (Jvm.Cond.privateMethod ({ cls := "FoldListerModel", name := "referenceLength", desc := "(I)I" } : Jvm.MethodName)) ∈ lw_tbl := lw_at lw_m14 126 rfl
theorem q3350 : (Jvm.Cond.instanceMethod ({ cls := "FoldListerModel", name := "referenceLength", desc := "(I)I" } : Jvm.MethodName)) ∈ lw_all := lw_g (lw_at lw_m14 127 rfl) rfl
theorem q3351 : (Jvm.Cond.code ({ cls := "FoldListerModel", name := "referenceLength", desc := "(I)I" } : Jvm.MethodName) prog_21_method_73_code (4 : Nat) (Option.some Jvm.ClassFile.FieldType.int)) ∈ lw_all := lw_g (lw_at lw_m14 128 rfl) rfl
theorem q3353 : (Jvm.Cond.instanceMethod ({ cls := "FoldListerModel", name := "referrers", desc := "(I)I" } : Jvm.MethodName)) ∈ lw_all := lw_g (lw_at lw_m14 130 rfl) rfl
theorem q3354 : (Jvm.Cond.selects "FoldListerModel" ({ cls := "FoldListerModel", name := "referrers", desc := "(I)I" } : Jvm.MethodName) ({ cls := "FoldListerModel", name := "referrers", desc := "(I)I" } : Jvm.MethodName)) ∈ lw_all := lw_g (lw_at lw_m14 131 rfl) rfl
theorem q3355 : (Jvm.Cond.code ({ cls := "FoldListerModel", name := "referrers", desc := "(I)I" } : Jvm.MethodName) prog_21_method_79_code (4 : Nat) (Option.some Jvm.ClassFile.FieldType.int)) ∈ lw_all := lw_g (lw_at lw_m14 132 rfl) rfl
theorem q3357 : (Jvm.Cond.instanceMethod ({ cls := "FoldListerModel", name := "referrer", desc := "(II)I" } : Jvm.MethodName)) ∈ lw_all := lw_g (lw_at lw_m14 134 rfl) rfl
theorem q3358 : (Jvm.Cond.selects "FoldListerModel" ({ cls := "FoldListerModel", name := "referrer", desc := "(II)I" } : Jvm.MethodName) ({ cls := "FoldListerModel", name := "referrer", desc := "(II)I" } : Jvm.MethodName)) ∈ lw_all := lw_g (lw_at lw_m14 135 rfl) rfl
theorem q3359 : (Jvm.Cond.code ({ cls := "FoldListerModel", name := "referrer", desc := "(II)I" } : Jvm.MethodName) prog_21_method_80_code (5 : Nat) (Option.some Jvm.ClassFile.FieldType.int)) ∈ lw_all := lw_g (lw_at lw_m14 136 rfl) rfl
theorem q3361 : (Jvm.Cond.instanceMethod ({ cls := "FoldListerModel", name := "cursor", desc := "()I" } : Jvm.MethodName)) ∈ lw_all := lw_g (lw_at lw_m14 138 rfl) rfl
theorem q3362 : (Jvm.Cond.selects "FoldListerModel" ({ cls := "FoldListerModel", name := "cursor", desc := "()I" } : Jvm.MethodName) ({ cls := "FoldListerModel", name := "cursor", desc := "()I" } : Jvm.MethodName)) ∈ lw_all := lw_g (lw_at lw_m14 139 rfl) rfl
theorem q3363 : (Jvm.Cond.code ({ cls := "FoldListerModel", name := "cursor", desc := "()I" } : Jvm.MethodName) prog_21_method_82_code (1 : Nat) (Option.some Jvm.ClassFile.FieldType.int)) ∈ lw_all := lw_g (lw_at lw_m14 140 rfl) rfl
theorem q3364 : (Jvm.Cond.methodLink "FoldListerModel" (260 : Nat) ({ cls := "FoldListerModel", name := "cursorLine", desc := "()I" } : Jvm.MethodName)) ∈ lw_all := lw_g (lw_at lw_m14 141 rfl) rfl
theorem q3365 : (Jvm.Cond.privateMethod ({ cls := "FoldListerModel", name := "cursorLine", desc := "()I" } : Jvm.MethodName)) ∈ lw_tbl := lw_at lw_m14 142 rfl
theorem q3366 : (Jvm.Cond.instanceMethod ({ cls := "FoldListerModel", name := "cursorLine", desc := "()I" } : Jvm.MethodName)) ∈ lw_all := lw_g (lw_at lw_m14 143 rfl) rfl
theorem q3367 : (Jvm.Cond.code ({ cls := "FoldListerModel", name := "cursorLine", desc := "()I" } : Jvm.MethodName) prog_21_method_81_code (1 : Nat) (Option.some Jvm.ClassFile.FieldType.int)) ∈ lw_all := lw_g (lw_at lw_m14 144 rfl) rfl
theorem q3369 : (Jvm.Cond.instanceMethod ({ cls := "FoldListerModel", name := "jumped", desc := "(ZI)I" } : Jvm.MethodName)) ∈ lw_all := lw_g (lw_at lw_m14 146 rfl) rfl
theorem q3370 : (Jvm.Cond.selects "FoldListerModel" ({ cls := "FoldListerModel", name := "jumped", desc := "(ZI)I" } : Jvm.MethodName) ({ cls := "FoldListerModel", name := "jumped", desc := "(ZI)I" } : Jvm.MethodName)) ∈ lw_all := lw_g (lw_at lw_m14 147 rfl) rfl
theorem q3371 : (Jvm.Cond.code ({ cls := "FoldListerModel", name := "jumped", desc := "(ZI)I" } : Jvm.MethodName) prog_21_method_83_code (4 : Nat) (Option.some Jvm.ClassFile.FieldType.int)) ∈ lw_all := lw_g (lw_at lw_m14 148 rfl) rfl
theorem q3373 : (Jvm.Cond.instanceMethod ({ cls := "FoldListerModel", name := "shownIf", desc := "(IZ)I" } : Jvm.MethodName)) ∈ lw_all := lw_g (lw_at lw_m14 150 rfl) rfl
theorem q3374 : (Jvm.Cond.selects "FoldListerModel" ({ cls := "FoldListerModel", name := "shownIf", desc := "(IZ)I" } : Jvm.MethodName) ({ cls := "FoldListerModel", name := "shownIf", desc := "(IZ)I" } : Jvm.MethodName)) ∈ lw_all := lw_g (lw_at lw_m14 151 rfl) rfl
theorem q3375 : (Jvm.Cond.code ({ cls := "FoldListerModel", name := "shownIf", desc := "(IZ)I" } : Jvm.MethodName) prog_21_method_84_code (3 : Nat) (Option.some Jvm.ClassFile.FieldType.int)) ∈ lw_all := lw_g (lw_at lw_m14 152 rfl) rfl
theorem q3377 : (Jvm.Cond.instanceMethod ({ cls := "FoldListerModel", name := "opensFor", desc := "(I)I" } : Jvm.MethodName)) ∈ lw_all := lw_g (lw_at lw_m14 154 rfl) rfl
theorem q3378 : (Jvm.Cond.selects "FoldListerModel" ({ cls := "FoldListerModel", name := "opensFor", desc := "(I)I" } : Jvm.MethodName) ({ cls := "FoldListerModel", name := "opensFor", desc := "(I)I" } : Jvm.MethodName)) ∈ lw_all := lw_g (lw_at lw_m14 155 rfl) rfl
theorem q3379 : (Jvm.Cond.code ({ cls := "FoldListerModel", name := "opensFor", desc := "(I)I" } : Jvm.MethodName) prog_21_method_86_code (2 : Nat) (Option.some Jvm.ClassFile.FieldType.int)) ∈ lw_all := lw_g (lw_at lw_m14 156 rfl) rfl
theorem q3380 : (Jvm.Cond.methodLink "FoldListerModel" (263 : Nat) ({ cls := "FoldListerModel", name := "laysOpened", desc := "(I)I" } : Jvm.MethodName)) ∈ lw_all := lw_g (lw_at lw_m14 157 rfl) rfl
theorem q3381 : (Jvm.Cond.privateMethod ({ cls := "FoldListerModel", name := "laysOpened", desc := "(I)I" } : Jvm.MethodName)) ∈ lw_tbl := lw_at lw_m14 158 rfl
theorem q3382 : (Jvm.Cond.instanceMethod ({ cls := "FoldListerModel", name := "laysOpened", desc := "(I)I" } : Jvm.MethodName)) ∈ lw_all := lw_g (lw_at lw_m14 159 rfl) rfl
theorem q3383 : (Jvm.Cond.code ({ cls := "FoldListerModel", name := "laysOpened", desc := "(I)I" } : Jvm.MethodName) prog_21_method_85_code (4 : Nat) (Option.some Jvm.ClassFile.FieldType.int)) ∈ lw_all := lw_g (lw_at lw_m14 160 rfl) rfl
theorem q3385 : (Jvm.Cond.instanceMethod ({ cls := "FoldListerModel", name := "opensForMarked", desc := "()I" } : Jvm.MethodName)) ∈ lw_all := lw_g (lw_at lw_m14 162 rfl) rfl
theorem q3386 : (Jvm.Cond.selects "FoldListerModel" ({ cls := "FoldListerModel", name := "opensForMarked", desc := "()I" } : Jvm.MethodName) ({ cls := "FoldListerModel", name := "opensForMarked", desc := "()I" } : Jvm.MethodName)) ∈ lw_all := lw_g (lw_at lw_m14 163 rfl) rfl
theorem q3387 : (Jvm.Cond.code ({ cls := "FoldListerModel", name := "opensForMarked", desc := "()I" } : Jvm.MethodName) prog_21_method_87_code (3 : Nat) (Option.some Jvm.ClassFile.FieldType.int)) ∈ lw_all := lw_g (lw_at lw_m14 164 rfl) rfl
theorem q3388 : (Jvm.Cond.methodLink "FoldListerModel" (266 : Nat) ({ cls := "FoldListerModel", name := "shows", desc := "(I)I" } : Jvm.MethodName)) ∈ lw_all := lw_g (lw_at lw_m14 165 rfl) rfl
theorem q3389 : (Jvm.Cond.privateMethod ({ cls := "FoldListerModel", name := "shows", desc := "(I)I" } : Jvm.MethodName)) ∈ lw_tbl := lw_at lw_m14 166 rfl
theorem q3390 : (Jvm.Cond.instanceMethod ({ cls := "FoldListerModel", name := "shows", desc := "(I)I" } : Jvm.MethodName)) ∈ lw_all := lw_g (lw_at lw_m14 167 rfl) rfl
theorem q3391 : (Jvm.Cond.code ({ cls := "FoldListerModel", name := "shows", desc := "(I)I" } : Jvm.MethodName) prog_21_method_89_code (4 : Nat) (Option.some Jvm.ClassFile.FieldType.int)) ∈ lw_all := lw_g (lw_at lw_m14 168 rfl) rfl
theorem q3393 : (Jvm.Cond.instanceMethod ({ cls := "FoldListerModel", name := "bestClose", desc := "()I" } : Jvm.MethodName)) ∈ lw_all := lw_g (lw_at lw_m14 170 rfl) rfl
theorem q3394 : (Jvm.Cond.selects "FoldListerModel" ({ cls := "FoldListerModel", name := "bestClose", desc := "()I" } : Jvm.MethodName) ({ cls := "FoldListerModel", name := "bestClose", desc := "()I" } : Jvm.MethodName)) ∈ lw_all := lw_g (lw_at lw_m14 171 rfl) rfl
theorem q3395 : (Jvm.Cond.code ({ cls := "FoldListerModel", name := "bestClose", desc := "()I" } : Jvm.MethodName) prog_21_method_88_code (4 : Nat) (Option.some Jvm.ClassFile.FieldType.int)) ∈ lw_all := lw_g (lw_at lw_m14 172 rfl) rfl
theorem q3397 : (Jvm.Cond.instanceMethod ({ cls := "FoldListerModel", name := "rowIf", desc := "(I)I" } : Jvm.MethodName)) ∈ lw_all := lw_g (lw_at lw_m14 174 rfl) rfl
theorem q3398 : (Jvm.Cond.selects "FoldListerModel" ({ cls := "FoldListerModel", name := "rowIf", desc := "(I)I" } : Jvm.MethodName) ({ cls := "FoldListerModel", name := "rowIf", desc := "(I)I" } : Jvm.MethodName)) ∈ lw_all := lw_g (lw_at lw_m14 175 rfl) rfl
theorem q3399 : (Jvm.Cond.code ({ cls := "FoldListerModel", name := "rowIf", desc := "(I)I" } : Jvm.MethodName) prog_21_method_90_code (4 : Nat) (Option.some Jvm.ClassFile.FieldType.int)) ∈ lw_all := lw_g (lw_at lw_m14 176 rfl) rfl
theorem q3401 : (Jvm.Cond.instanceMethod ({ cls := "FoldListerModel", name := "steps", desc := "(II)I" } : Jvm.MethodName)) ∈ lw_all := lw_g (lw_at lw_m14 178 rfl) rfl
theorem q3402 : (Jvm.Cond.selects "FoldListerModel" ({ cls := "FoldListerModel", name := "steps", desc := "(II)I" } : Jvm.MethodName) ({ cls := "FoldListerModel", name := "steps", desc := "(II)I" } : Jvm.MethodName)) ∈ lw_all := lw_g (lw_at lw_m14 179 rfl) rfl
theorem q3403 : (Jvm.Cond.code ({ cls := "FoldListerModel", name := "steps", desc := "(II)I" } : Jvm.MethodName) prog_21_method_91_code (5 : Nat) (Option.some Jvm.ClassFile.FieldType.int)) ∈ lw_all := lw_g (lw_at lw_m14 180 rfl) rfl
theorem q3405 : (Jvm.Cond.instanceMethod ({ cls := "FoldListerModel", name := "writeLine", desc := "(I)I" } : Jvm.MethodName)) ∈ lw_all := lw_g (lw_at lw_m14 182 rfl) rfl
theorem q3406 : (Jvm.Cond.selects "FoldListerModel" ({ cls := "FoldListerModel", name := "writeLine", desc := "(I)I" } : Jvm.MethodName) ({ cls := "FoldListerModel", name := "writeLine", desc := "(I)I" } : Jvm.MethodName)) ∈ lw_all := lw_g (lw_at lw_m14 183 rfl) rfl
theorem q3407 : (Jvm.Cond.code ({ cls := "FoldListerModel", name := "writeLine", desc := "(I)I" } : Jvm.MethodName) prog_21_method_95_code (2 : Nat) (Option.some Jvm.ClassFile.FieldType.int)) ∈ lw_all := lw_g (lw_at lw_m14 184 rfl) rfl
theorem q3408 : (Jvm.Cond.methodLink "FoldListerModel" (278 : Nat) ({ cls := "FoldListerModel", name := "writes", desc := "(I)V" } : Jvm.MethodName)) ∈ lw_all := lw_g (lw_at lw_m14 185 rfl) rfl
theorem q3409 : (Jvm.Cond.privateMethod ({ cls := "FoldListerModel", name := "writes", desc := "(I)V" } : Jvm.MethodName)) ∈ lw_tbl := lw_at lw_m14 186 rfl
theorem q3410 : (Jvm.Cond.instanceMethod ({ cls := "FoldListerModel", name := "writes", desc := "(I)V" } : Jvm.MethodName)) ∈ lw_all := lw_g (lw_at lw_m14 187 rfl) rfl
theorem q3411 : (Jvm.Cond.code ({ cls := "FoldListerModel", name := "writes", desc := "(I)V" } : Jvm.MethodName) prog_21_method_94_code (3 : Nat) (Option.none : Option Jvm.ClassFile.FieldType)) ∈ lw_all := lw_g (lw_at lw_m14 188 rfl) rfl
theorem q3412 : (Jvm.Cond.methodLink "FoldListerModel" (272 : Nat) ({ cls := "FoldListerModel", name := "writesNumber", desc := "(I)V" } : Jvm.MethodName)) ∈ lw_all := lw_g (lw_at lw_m14 189 rfl) rfl
theorem q3413 : (Jvm.Cond.privateMethod ({ cls := "FoldListerModel", name := "writesNumber", desc := "(I)V" } : Jvm.MethodName)) ∈ lw_tbl := lw_at lw_m14 190 rfl
theorem q3414 : (Jvm.Cond.instanceMethod ({ cls := "FoldListerModel", name := "writesNumber", desc := "(I)V" } : Jvm.MethodName)) ∈ lw_all := lw_g (lw_at lw_m14 191 rfl) rfl
theorem q3415 : (Jvm.Cond.code ({ cls := "FoldListerModel", name := "writesNumber", desc := "(I)V" } : Jvm.MethodName) prog_21_method_93_code (2 : Nat) (Option.none : Option Jvm.ClassFile.FieldType)) ∈ lw_all := lw_g (lw_at lw_m14 192 rfl) rfl
theorem q3416 : (Jvm.Cond.methodLink "FoldListerModel" (275 : Nat) ({ cls := "FoldListerModel", name := "writesByte", desc := "(I)V" } : Jvm.MethodName)) ∈ lw_all := lw_g (lw_at lw_m14 193 rfl) rfl
theorem q3417 : (Jvm.Cond.privateMethod ({ cls := "FoldListerModel", name := "writesByte", desc := "(I)V" } : Jvm.MethodName)) ∈ lw_tbl := lw_at lw_m14 194 rfl
theorem q3418 : (Jvm.Cond.instanceMethod ({ cls := "FoldListerModel", name := "writesByte", desc := "(I)V" } : Jvm.MethodName)) ∈ lw_all := lw_g (lw_at lw_m14 195 rfl) rfl
theorem q3419 : (Jvm.Cond.code ({ cls := "FoldListerModel", name := "writesByte", desc := "(I)V" } : Jvm.MethodName) prog_21_method_92_code (2 : Nat) (Option.none : Option Jvm.ClassFile.FieldType)) ∈ lw_all := lw_g (lw_at lw_m14 196 rfl) rfl
theorem q3421 : (Jvm.Cond.instanceMethod ({ cls := "FoldListerModel", name := "writeRows", desc := "(II)I" } : Jvm.MethodName)) ∈ lw_all := lw_g (lw_at lw_m14 198 rfl) rfl
theorem q3422 : (Jvm.Cond.selects "FoldListerModel" ({ cls := "FoldListerModel", name := "writeRows", desc := "(II)I" } : Jvm.MethodName) ({ cls := "FoldListerModel", name := "writeRows", desc := "(II)I" } : Jvm.MethodName)) ∈ lw_all := lw_g (lw_at lw_m14 199 rfl) rfl
theorem q3423 : (Jvm.Cond.code ({ cls := "FoldListerModel", name := "writeRows", desc := "(II)I" } : Jvm.MethodName) prog_21_method_96_code (5 : Nat) (Option.some Jvm.ClassFile.FieldType.int)) ∈ lw_all := lw_g (lw_at lw_m14 200 rfl) rfl
theorem q3425 : (Jvm.Cond.instanceMethod ({ cls := "FoldListerModel", name := "writeOutline", desc := "()I" } : Jvm.MethodName)) ∈ lw_all := lw_g (lw_at lw_m14 202 rfl) rfl
theorem q3426 : (Jvm.Cond.selects "FoldListerModel" ({ cls := "FoldListerModel", name := "writeOutline", desc := "()I" } : Jvm.MethodName) ({ cls := "FoldListerModel", name := "writeOutline", desc := "()I" } : Jvm.MethodName)) ∈ lw_all := lw_g (lw_at lw_m14 203 rfl) rfl
theorem q3427 : (Jvm.Cond.code ({ cls := "FoldListerModel", name := "writeOutline", desc := "()I" } : Jvm.MethodName) prog_21_method_97_code (2 : Nat) (Option.some Jvm.ClassFile.FieldType.int)) ∈ lw_all := lw_g (lw_at lw_m14 204 rfl) rfl
theorem q3429 : (Jvm.Cond.instanceMethod ({ cls := "FoldListerModel", name := "textByte", desc := "(I)I" } : Jvm.MethodName)) ∈ lw_all := lw_g (lw_at lw_m14 206 rfl) rfl
theorem q3430 : (Jvm.Cond.selects "FoldListerModel" ({ cls := "FoldListerModel", name := "textByte", desc := "(I)I" } : Jvm.MethodName) ({ cls := "FoldListerModel", name := "textByte", desc := "(I)I" } : Jvm.MethodName)) ∈ lw_all := lw_g (lw_at lw_m14 207 rfl) rfl
theorem q3431 : (Jvm.Cond.code ({ cls := "FoldListerModel", name := "textByte", desc := "(I)I" } : Jvm.MethodName) prog_21_method_98_code (2 : Nat) (Option.some Jvm.ClassFile.FieldType.int)) ∈ lw_all := lw_g (lw_at lw_m14 208 rfl) rfl
theorem q3433 : (Jvm.Cond.instanceMethod ({ cls := "FoldListerModel", name := "insert", desc := "(II)I" } : Jvm.MethodName)) ∈ lw_all := lw_g (lw_at lw_m14 210 rfl) rfl
theorem q3434 : (Jvm.Cond.selects "FoldListerModel" ({ cls := "FoldListerModel", name := "insert", desc := "(II)I" } : Jvm.MethodName) ({ cls := "FoldListerModel", name := "insert", desc := "(II)I" } : Jvm.MethodName)) ∈ lw_all := lw_g (lw_at lw_m14 211 rfl) rfl
theorem q3435 : (Jvm.Cond.code ({ cls := "FoldListerModel", name := "insert", desc := "(II)I" } : Jvm.MethodName) prog_21_method_106_code (5 : Nat) (Option.some Jvm.ClassFile.FieldType.int)) ∈ lw_all := lw_g (lw_at lw_m14 212 rfl) rfl
theorem q3436 : (Jvm.Cond.methodLink "FoldListerModel" (291 : Nat) ({ cls := "FoldListerModel", name := "isText", desc := "(I)Z" } : Jvm.MethodName)) ∈ lw_all := lw_g (lw_at lw_m14 213 rfl) rfl
theorem q3437 : (Jvm.Cond.privateMethod ({ cls := "FoldListerModel", name := "isText", desc := "(I)Z" } : Jvm.MethodName)) ∈ lw_tbl := lw_at lw_m14 214 rfl
theorem q3438 : (Jvm.Cond.instanceMethod ({ cls := "FoldListerModel", name := "isText", desc := "(I)Z" } : Jvm.MethodName)) ∈ lw_all := lw_g (lw_at lw_m14 215 rfl) rfl
theorem q3439 : (Jvm.Cond.code ({ cls := "FoldListerModel", name := "isText", desc := "(I)Z" } : Jvm.MethodName) prog_21_method_100_code (3 : Nat) (Option.some Jvm.ClassFile.FieldType.boolean)) ∈ lw_all := lw_g (lw_at lw_m14 216 rfl) rfl
theorem q3440 : (Jvm.Cond.methodLink "FoldListerModel" (294 : Nat) ({ cls := "FoldListerModel", name := "remembers", desc := "()V" } : Jvm.MethodName)) ∈ lw_all := lw_g (lw_at lw_m14 217 rfl) rfl
theorem q3441 : (Jvm.Cond.privateMethod ({ cls := "FoldListerModel", name := "remembers", desc := "()V" } : Jvm.MethodName)) ∈ lw_tbl := lw_at lw_m14 218 rfl
theorem q3442 : (Jvm.Cond.instanceMethod ({ cls := "FoldListerModel", name := "remembers", desc := "()V" } : Jvm.MethodName)) ∈ lw_all := lw_g (lw_at lw_m14 219 rfl) rfl
theorem q3443 : (Jvm.Cond.code ({ cls := "FoldListerModel", name := "remembers", desc := "()V" } : Jvm.MethodName) prog_21_method_99_code (2 : Nat) (Option.none : Option Jvm.ClassFile.FieldType)) ∈ lw_all := lw_g (lw_at lw_m14 220 rfl) rfl
theorem q3444 : (Jvm.Cond.methodLink "FoldListerModel" (297 : Nat) ({ cls := "FoldListerModel", name := "laysText", desc := "(II)V" } : Jvm.MethodName)) ∈ lw_all := lw_g (lw_at lw_m14 221 rfl) rfl
theorem q3445 : (Jvm.Cond.privateMethod ({ cls := "FoldListerModel", name := "laysText", desc := "(II)V" } : Jvm.MethodName)) ∈ lw_tbl := lw_at lw_m14 222 rfl
theorem q3446 : (Jvm.Cond.instanceMethod ({ cls := "FoldListerModel", name := "laysText", desc := "(II)V" } : Jvm.MethodName)) ∈ lw_all := lw_g (lw_at lw_m14 223 rfl) rfl
theorem q3447 : (Jvm.Cond.code ({ cls := "FoldListerModel", name := "laysText", desc := "(II)V" } : Jvm.MethodName) prog_21_method_101_code (4 : Nat) (Option.none : Option Jvm.ClassFile.FieldType)) ∈ lw_all := lw_g (lw_at lw_m14 224 rfl) rfl
theorem q3448 : (Jvm.Cond.methodLink "FoldListerModel" (300 : Nat) ({ cls := "FoldListerModel", name := "settles", desc := "(I)V" } : Jvm.MethodName)) ∈ lw_all := lw_g (lw_at lw_m14 225 rfl) rfl
theorem q3449 : (Jvm.Cond.privateMethod ({ cls := "FoldListerModel", name := "settles", desc := "(I)V" } : Jvm.MethodName)) ∈ lw_tbl := lw_at lw_m14 226 rfl
theorem q3450 : (Jvm.Cond.instanceMethod ({ cls := "FoldListerModel", name := "settles", desc := "(I)V" } : Jvm.MethodName)) ∈ lw_all := lw_g (lw_at lw_m14 227 rfl) rfl
theorem q3451 : (Jvm.Cond.code ({ cls := "FoldListerModel", name := "settles", desc := "(I)V" } : Jvm.MethodName) prog_21_method_105_code (3 : Nat) (Option.none : Option Jvm.ClassFile.FieldType)) ∈ lw_all := lw_g (lw_at lw_m14 228 rfl) rfl
theorem q3452 : (Jvm.Cond.methodLink "FoldListerModel" (287 : Nat) ({ cls := "FoldListerModel", name := "goes", desc := "(III)V" } : Jvm.MethodName)) ∈ lw_all := lw_g (lw_at lw_m14 229 rfl) rfl
theorem q3453 : (Jvm.Cond.privateMethod ({ cls := "FoldListerModel", name := "goes", desc := "(III)V" } : Jvm.MethodName)) ∈ lw_tbl := lw_at lw_m14 230 rfl
theorem q3454 : (Jvm.Cond.instanceMethod ({ cls := "FoldListerModel", name := "goes", desc := "(III)V" } : Jvm.MethodName)) ∈ lw_all := lw_g (lw_at lw_m14 231 rfl) rfl
theorem q3455 : (Jvm.Cond.code ({ cls := "FoldListerModel", name := "goes", desc := "(III)V" } : Jvm.MethodName) prog_21_method_104_code (7 : Nat) (Option.none : Option Jvm.ClassFile.FieldType)) ∈ lw_all := lw_g (lw_at lw_m14 232 rfl) rfl
theorem q3456 : (Jvm.Cond.methodLink "FoldListerModel" (281 : Nat) ({ cls := "FoldListerModel", name := "laysOrder", desc := "()V" } : Jvm.MethodName)) ∈ lw_all := lw_g (lw_at lw_m14 233 rfl) rfl
theorem q3457 : (Jvm.Cond.privateMethod ({ cls := "FoldListerModel", name := "laysOrder", desc := "()V" } : Jvm.MethodName)) ∈ lw_tbl := lw_at lw_m14 234 rfl
theorem q3458 : (Jvm.Cond.instanceMethod ({ cls := "FoldListerModel", name := "laysOrder", desc := "()V" } : Jvm.MethodName)) ∈ lw_all := lw_g (lw_at lw_m14 235 rfl) rfl
theorem q3459 : (Jvm.Cond.code ({ cls := "FoldListerModel", name := "laysOrder", desc := "()V" } : Jvm.MethodName) prog_21_method_102_code (2 : Nat) (Option.none : Option Jvm.ClassFile.FieldType)) ∈ lw_all := lw_g (lw_at lw_m14 236 rfl) rfl
theorem q3460 : (Jvm.Cond.methodLink "FoldListerModel" (284 : Nat) ({ cls := "FoldListerModel", name := "arranges", desc := "()V" } : Jvm.MethodName)) ∈ lw_all := lw_g (lw_at lw_m14 237 rfl) rfl
theorem q3461 : (Jvm.Cond.privateMethod ({ cls := "FoldListerModel", name := "arranges", desc := "()V" } : Jvm.MethodName)) ∈ lw_tbl := lw_at lw_m14 238 rfl
theorem q3462 : (Jvm.Cond.instanceMethod ({ cls := "FoldListerModel", name := "arranges", desc := "()V" } : Jvm.MethodName)) ∈ lw_all := lw_g (lw_at lw_m14 239 rfl) rfl
theorem q3463 : (Jvm.Cond.code ({ cls := "FoldListerModel", name := "arranges", desc := "()V" } : Jvm.MethodName) prog_21_method_103_code (3 : Nat) (Option.none : Option Jvm.ClassFile.FieldType)) ∈ lw_all := lw_g (lw_at lw_m15 0 rfl) rfl
theorem q3465 : (Jvm.Cond.instanceMethod ({ cls := "FoldListerModel", name := "replace", desc := "(II)I" } : Jvm.MethodName)) ∈ lw_all := lw_g (lw_at lw_m15 2 rfl) rfl
theorem q3466 : (Jvm.Cond.selects "FoldListerModel" ({ cls := "FoldListerModel", name := "replace", desc := "(II)I" } : Jvm.MethodName) ({ cls := "FoldListerModel", name := "replace", desc := "(II)I" } : Jvm.MethodName)) ∈ lw_all := lw_g (lw_at lw_m15 3 rfl) rfl
theorem q3467 : (Jvm.Cond.code ({ cls := "FoldListerModel", name := "replace", desc := "(II)I" } : Jvm.MethodName) prog_21_method_107_code (4 : Nat) (Option.some Jvm.ClassFile.FieldType.int)) ∈ lw_all := lw_g (lw_at lw_m15 4 rfl) rfl
theorem q3469 : (Jvm.Cond.instanceMethod ({ cls := "FoldListerModel", name := "remove", desc := "(II)I" } : Jvm.MethodName)) ∈ lw_all := lw_g (lw_at lw_m15 6 rfl) rfl
theorem q3470 : (Jvm.Cond.selects "FoldListerModel" ({ cls := "FoldListerModel", name := "remove", desc := "(II)I" } : Jvm.MethodName) ({ cls := "FoldListerModel", name := "remove", desc := "(II)I" } : Jvm.MethodName)) ∈ lw_all := lw_g (lw_at lw_m15 7 rfl) rfl
theorem q3471 : (Jvm.Cond.code ({ cls := "FoldListerModel", name := "remove", desc := "(II)I" } : Jvm.MethodName) prog_21_method_111_code (3 : Nat) (Option.some Jvm.ClassFile.FieldType.int)) ∈ lw_all := lw_g (lw_at lw_m15 8 rfl) rfl
theorem q3472 : (Jvm.Cond.methodLink "FoldListerModel" (303 : Nat) ({ cls := "FoldListerModel", name := "mayRange", desc := "(II)Z" } : Jvm.MethodName)) ∈ lw_all := lw_g (lw_at lw_m15 9 rfl) rfl
theorem q3473 : (Jvm.Cond.privateMethod ({ cls := "FoldListerModel", name := "mayRange", desc := "(II)Z" } : Jvm.MethodName)) ∈ lw_tbl := lw_at lw_m15 10 rfl
theorem q3474 : (Jvm.Cond.instanceMethod ({ cls := "FoldListerModel", name := "mayRange", desc := "(II)Z" } : Jvm.MethodName)) ∈ lw_all := lw_g (lw_at lw_m15 11 rfl) rfl
theorem q3475 : (Jvm.Cond.code ({ cls := "FoldListerModel", name := "mayRange", desc := "(II)Z" } : Jvm.MethodName) prog_21_method_108_code (3 : Nat) (Option.some Jvm.ClassFile.FieldType.boolean)) ∈ lw_all := lw_g (lw_at lw_m15 12 rfl) rfl
theorem q3476 : (Jvm.Cond.methodLink "FoldListerModel" (306 : Nat) ({ cls := "FoldListerModel", name := "takesOut", desc := "(II)V" } : Jvm.MethodName)) ∈ lw_all := lw_g (lw_at lw_m15 13 rfl) rfl
theorem q3477 : (Jvm.Cond.privateMethod ({ cls := "FoldListerModel", name := "takesOut", desc := "(II)V" } : Jvm.MethodName)) ∈ lw_tbl := lw_at lw_m15 14 rfl
theorem q3478 : (Jvm.Cond.instanceMethod ({ cls := "FoldListerModel", name := "takesOut", desc := "(II)V" } : Jvm.MethodName)) ∈ lw_all := lw_g (lw_at lw_m15 15 rfl) rfl
theorem q3479 : (Jvm.Cond.code ({ cls := "FoldListerModel", name := "takesOut", desc := "(II)V" } : Jvm.MethodName) prog_21_method_112_code (5 : Nat) (Option.none : Option Jvm.ClassFile.FieldType)) ∈ lw_all := lw_g (lw_at lw_m15 16 rfl) rfl
theorem q3480 : (Jvm.Cond.methodLink "FoldListerModel" (309 : Nat) ({ cls := "FoldListerModel", name := "goesFrom", desc := "(III)I" } : Jvm.MethodName)) ∈ lw_all := lw_g (lw_at lw_m15 17 rfl) rfl
theorem q3481 : (Jvm.Cond.privateMethod ({ cls := "FoldListerModel", name := "goesFrom", desc := "(III)I" } : Jvm.MethodName)) ∈ lw_tbl := lw_at lw_m15 18 rfl
theorem q3482 : (Jvm.Cond.instanceMethod ({ cls := "FoldListerModel", name := "goesFrom", desc := "(III)I" } : Jvm.MethodName)) ∈ lw_all := lw_g (lw_at lw_m15 19 rfl) rfl
theorem q3483 : (Jvm.Cond.code ({ cls := "FoldListerModel", name := "goesFrom", desc := "(III)I" } : Jvm.MethodName) prog_21_method_109_code (4 : Nat) (Option.some Jvm.ClassFile.FieldType.int)) ∈ lw_all := lw_g (lw_at lw_m15 20 rfl) rfl
theorem q3484 : (Jvm.Cond.methodLink "FoldListerModel" (313 : Nat) ({ cls := "FoldListerModel", name := "takesOff", desc := "(IIII)V" } : Jvm.MethodName)) ∈ lw_all := lw_g (lw_at lw_m15 21 rfl) rfl
theorem q3485 : (Jvm.Cond.privateMethod ({ cls := "FoldListerModel", name := "takesOff", desc := "(IIII)V" } : Jvm.MethodName)) ∈ lw_tbl := lw_at lw_m15 22 rfl
theorem q3486 : (Jvm.Cond.instanceMethod ({ cls := "FoldListerModel", name := "takesOff", desc := "(IIII)V" } : Jvm.MethodName)) ∈ lw_all := lw_g (lw_at lw_m15 23 rfl) rfl
theorem q3487 : (Jvm.Cond.code ({ cls := "FoldListerModel", name := "takesOff", desc := "(IIII)V" } : Jvm.MethodName) prog_21_method_110_code (7 : Nat) (Option.none : Option Jvm.ClassFile.FieldType)) ∈ lw_all := lw_g (lw_at lw_m15 24 rfl) rfl
theorem q3489 : (Jvm.Cond.instanceMethod ({ cls := "FoldListerModel", name := "join", desc := "(I)I" } : Jvm.MethodName)) ∈ lw_all := lw_g (lw_at lw_m15 26 rfl) rfl
theorem q3490 : (Jvm.Cond.selects "FoldListerModel" ({ cls := "FoldListerModel", name := "join", desc := "(I)I" } : Jvm.MethodName) ({ cls := "FoldListerModel", name := "join", desc := "(I)I" } : Jvm.MethodName)) ∈ lw_all := lw_g (lw_at lw_m15 27 rfl) rfl
theorem q3491 : (Jvm.Cond.code ({ cls := "FoldListerModel", name := "join", desc := "(I)I" } : Jvm.MethodName) prog_21_method_113_code (6 : Nat) (Option.some Jvm.ClassFile.FieldType.int)) ∈ lw_all := lw_g (lw_at lw_m15 28 rfl) rfl
theorem q3493 : (Jvm.Cond.instanceMethod ({ cls := "FoldListerModel", name := "part", desc := "(II)I" } : Jvm.MethodName)) ∈ lw_all := lw_g (lw_at lw_m15 30 rfl) rfl
theorem q3494 : (Jvm.Cond.selects "FoldListerModel" ({ cls := "FoldListerModel", name := "part", desc := "(II)I" } : Jvm.MethodName) ({ cls := "FoldListerModel", name := "part", desc := "(II)I" } : Jvm.MethodName)) ∈ lw_all := lw_g (lw_at lw_m15 31 rfl) rfl
theorem q3495 : (Jvm.Cond.code ({ cls := "FoldListerModel", name := "part", desc := "(II)I" } : Jvm.MethodName) prog_21_method_114_code (6 : Nat) (Option.some Jvm.ClassFile.FieldType.int)) ∈ lw_all := lw_g (lw_at lw_m15 32 rfl) rfl
theorem q3497 : (Jvm.Cond.instanceMethod ({ cls := "FoldListerModel", name := "move", desc := "(III)I" } : Jvm.MethodName)) ∈ lw_all := lw_g (lw_at lw_m15 34 rfl) rfl
theorem q3498 : (Jvm.Cond.selects "FoldListerModel" ({ cls := "FoldListerModel", name := "move", desc := "(III)I" } : Jvm.MethodName) ({ cls := "FoldListerModel", name := "move", desc := "(III)I" } : Jvm.MethodName)) ∈ lw_all := lw_g (lw_at lw_m15 35 rfl) rfl
theorem q3499 : (Jvm.Cond.code ({ cls := "FoldListerModel", name := "move", desc := "(III)I" } : Jvm.MethodName) prog_21_method_115_code (4 : Nat) (Option.some Jvm.ClassFile.FieldType.int)) ∈ lw_all := lw_g (lw_at lw_m15 36 rfl) rfl
theorem q3501 : (Jvm.Cond.instanceMethod ({ cls := "FoldListerModel", name := "copy", desc := "(III)I" } : Jvm.MethodName)) ∈ lw_all := lw_g (lw_at lw_m15 38 rfl) rfl
theorem q3502 : (Jvm.Cond.selects "FoldListerModel" ({ cls := "FoldListerModel", name := "copy", desc := "(III)I" } : Jvm.MethodName) ({ cls := "FoldListerModel", name := "copy", desc := "(III)I" } : Jvm.MethodName)) ∈ lw_all := lw_g (lw_at lw_m15 39 rfl) rfl
theorem q3503 : (Jvm.Cond.code ({ cls := "FoldListerModel", name := "copy", desc := "(III)I" } : Jvm.MethodName) prog_21_method_116_code (9 : Nat) (Option.some Jvm.ClassFile.FieldType.int)) ∈ lw_all := lw_g (lw_at lw_m15 40 rfl) rfl
theorem q3505 : (Jvm.Cond.instanceMethod ({ cls := "FoldListerModel", name := "reverse", desc := "(II)I" } : Jvm.MethodName)) ∈ lw_all := lw_g (lw_at lw_m15 42 rfl) rfl
theorem q3506 : (Jvm.Cond.selects "FoldListerModel" ({ cls := "FoldListerModel", name := "reverse", desc := "(II)I" } : Jvm.MethodName) ({ cls := "FoldListerModel", name := "reverse", desc := "(II)I" } : Jvm.MethodName)) ∈ lw_all := lw_g (lw_at lw_m15 43 rfl) rfl
theorem q3507 : (Jvm.Cond.code ({ cls := "FoldListerModel", name := "reverse", desc := "(II)I" } : Jvm.MethodName) prog_21_method_117_code (4 : Nat) (Option.some Jvm.ClassFile.FieldType.int)) ∈ lw_all := lw_g (lw_at lw_m15 44 rfl) rfl
theorem q3509 : (Jvm.Cond.instanceMethod ({ cls := "FoldListerModel", name := "close", desc := "(IZ)Z" } : Jvm.MethodName)) ∈ lw_all := lw_g (lw_at lw_m15 46 rfl) rfl
theorem q3510 : (Jvm.Cond.selects "FoldListerModel" ({ cls := "FoldListerModel", name := "close", desc := "(IZ)Z" } : Jvm.MethodName) ({ cls := "FoldListerModel", name := "close", desc := "(IZ)Z" } : Jvm.MethodName)) ∈ lw_all := lw_g (lw_at lw_m15 47 rfl) rfl
theorem q3511 : (Jvm.Cond.code ({ cls := "FoldListerModel", name := "close", desc := "(IZ)Z" } : Jvm.MethodName) prog_21_method_118_code (4 : Nat) (Option.some Jvm.ClassFile.FieldType.boolean)) ∈ lw_all := lw_g (lw_at lw_m15 48 rfl) rfl
theorem q3513 : (Jvm.Cond.instanceMethod ({ cls := "FoldListerModel", name := "fold", desc := "(I)I" } : Jvm.MethodName)) ∈ lw_all := lw_g (lw_at lw_m15 50 rfl) rfl
theorem q3514 : (Jvm.Cond.selects "FoldListerModel" ({ cls := "FoldListerModel", name := "fold", desc := "(I)I" } : Jvm.MethodName) ({ cls := "FoldListerModel", name := "fold", desc := "(I)I" } : Jvm.MethodName)) ∈ lw_all := lw_g (lw_at lw_m15 51 rfl) rfl
theorem q3515 : (Jvm.Cond.code ({ cls := "FoldListerModel", name := "fold", desc := "(I)I" } : Jvm.MethodName) prog_21_method_119_code (4 : Nat) (Option.some Jvm.ClassFile.FieldType.int)) ∈ lw_all := lw_g (lw_at lw_m15 52 rfl) rfl
theorem q3517 : (Jvm.Cond.instanceMethod ({ cls := "FoldListerModel", name := "closeLevel", desc := "(I)I" } : Jvm.MethodName)) ∈ lw_all := lw_g (lw_at lw_m15 54 rfl) rfl
theorem q3518 : (Jvm.Cond.selects "FoldListerModel" ({ cls := "FoldListerModel", name := "closeLevel", desc := "(I)I" } : Jvm.MethodName) ({ cls := "FoldListerModel", name := "closeLevel", desc := "(I)I" } : Jvm.MethodName)) ∈ lw_all := lw_g (lw_at lw_m15 55 rfl) rfl
theorem q3519 : (Jvm.Cond.code ({ cls := "FoldListerModel", name := "closeLevel", desc := "(I)I" } : Jvm.MethodName) prog_21_method_120_code (4 : Nat) (Option.some Jvm.ClassFile.FieldType.int)) ∈ lw_all := lw_g (lw_at lw_m15 56 rfl) rfl
theorem q3521 : (Jvm.Cond.instanceMethod ({ cls := "FoldListerModel", name := "openAll", desc := "()I" } : Jvm.MethodName)) ∈ lw_all := lw_g (lw_at lw_m15 58 rfl) rfl
theorem q3522 : (Jvm.Cond.selects "FoldListerModel" ({ cls := "FoldListerModel", name := "openAll", desc := "()I" } : Jvm.MethodName) ({ cls := "FoldListerModel", name := "openAll", desc := "()I" } : Jvm.MethodName)) ∈ lw_all := lw_g (lw_at lw_m15 59 rfl) rfl
theorem q3523 : (Jvm.Cond.code ({ cls := "FoldListerModel", name := "openAll", desc := "()I" } : Jvm.MethodName) prog_21_method_121_code (3 : Nat) (Option.some Jvm.ClassFile.FieldType.int)) ∈ lw_all := lw_g (lw_at lw_m15 60 rfl) rfl
theorem q3525 : (Jvm.Cond.instanceMethod ({ cls := "FoldListerModel", name := "show", desc := "(I)I" } : Jvm.MethodName)) ∈ lw_all := lw_g (lw_at lw_m15 62 rfl) rfl
theorem q3526 : (Jvm.Cond.selects "FoldListerModel" ({ cls := "FoldListerModel", name := "show", desc := "(I)I" } : Jvm.MethodName) ({ cls := "FoldListerModel", name := "show", desc := "(I)I" } : Jvm.MethodName)) ∈ lw_all := lw_g (lw_at lw_m15 63 rfl) rfl
theorem q3527 : (Jvm.Cond.code ({ cls := "FoldListerModel", name := "show", desc := "(I)I" } : Jvm.MethodName) prog_21_method_122_code (2 : Nat) (Option.some Jvm.ClassFile.FieldType.int)) ∈ lw_all := lw_g (lw_at lw_m15 64 rfl) rfl
theorem q3529 : (Jvm.Cond.instanceMethod ({ cls := "FoldListerModel", name := "mark", desc := "(II)I" } : Jvm.MethodName)) ∈ lw_all := lw_g (lw_at lw_m15 66 rfl) rfl
theorem q3530 : (Jvm.Cond.selects "FoldListerModel" ({ cls := "FoldListerModel", name := "mark", desc := "(II)I" } : Jvm.MethodName) ({ cls := "FoldListerModel", name := "mark", desc := "(II)I" } : Jvm.MethodName)) ∈ lw_all := lw_g (lw_at lw_m15 67 rfl) rfl
theorem q3531 : (Jvm.Cond.code ({ cls := "FoldListerModel", name := "mark", desc := "(II)I" } : Jvm.MethodName) prog_21_method_123_code (4 : Nat) (Option.some Jvm.ClassFile.FieldType.int)) ∈ lw_all := lw_g (lw_at lw_m15 68 rfl) rfl
theorem q3533 : (Jvm.Cond.instanceMethod ({ cls := "FoldListerModel", name := "jump", desc := "(I)I" } : Jvm.MethodName)) ∈ lw_all := lw_g (lw_at lw_m15 70 rfl) rfl
theorem q3534 : (Jvm.Cond.selects "FoldListerModel" ({ cls := "FoldListerModel", name := "jump", desc := "(I)I" } : Jvm.MethodName) ({ cls := "FoldListerModel", name := "jump", desc := "(I)I" } : Jvm.MethodName)) ∈ lw_all := lw_g (lw_at lw_m15 71 rfl) rfl
theorem q3535 : (Jvm.Cond.code ({ cls := "FoldListerModel", name := "jump", desc := "(I)I" } : Jvm.MethodName) prog_21_method_127_code (2 : Nat) (Option.some Jvm.ClassFile.FieldType.int)) ∈ lw_all := lw_g (lw_at lw_m15 72 rfl) rfl
theorem q3536 : (Jvm.Cond.methodLink "FoldListerModel" (323 : Nat) ({ cls := "FoldListerModel", name := "jumpsTo", desc := "(I)V" } : Jvm.MethodName)) ∈ lw_all := lw_g (lw_at lw_m15 73 rfl) rfl
theorem q3537 : (Jvm.Cond.privateMethod ({ cls := "FoldListerModel", name := "jumpsTo", desc := "(I)V" } : Jvm.MethodName)) ∈ lw_tbl := lw_at lw_m15 74 rfl
theorem q3538 : (Jvm.Cond.instanceMethod ({ cls := "FoldListerModel", name := "jumpsTo", desc := "(I)V" } : Jvm.MethodName)) ∈ lw_all := lw_g (lw_at lw_m15 75 rfl) rfl
theorem q3539 : (Jvm.Cond.code ({ cls := "FoldListerModel", name := "jumpsTo", desc := "(I)V" } : Jvm.MethodName) prog_21_method_126_code (2 : Nat) (Option.none : Option Jvm.ClassFile.FieldType)) ∈ lw_all := lw_g (lw_at lw_m15 76 rfl) rfl
theorem q3540 : (Jvm.Cond.methodLink "FoldListerModel" (317 : Nat) ({ cls := "FoldListerModel", name := "puts", desc := "(III)V" } : Jvm.MethodName)) ∈ lw_all := lw_g (lw_at lw_m15 77 rfl) rfl
theorem q3541 : (Jvm.Cond.privateMethod ({ cls := "FoldListerModel", name := "puts", desc := "(III)V" } : Jvm.MethodName)) ∈ lw_tbl := lw_at lw_m15 78 rfl
theorem q3542 : (Jvm.Cond.instanceMethod ({ cls := "FoldListerModel", name := "puts", desc := "(III)V" } : Jvm.MethodName)) ∈ lw_all := lw_g (lw_at lw_m15 79 rfl) rfl
theorem q3543 : (Jvm.Cond.code ({ cls := "FoldListerModel", name := "puts", desc := "(III)V" } : Jvm.MethodName) prog_21_method_124_code (5 : Nat) (Option.none : Option Jvm.ClassFile.FieldType)) ∈ lw_all := lw_g (lw_at lw_m15 80 rfl) rfl
theorem q3544 : (Jvm.Cond.methodLink "FoldListerModel" (320 : Nat) ({ cls := "FoldListerModel", name := "comesTo", desc := "(I)V" } : Jvm.MethodName)) ∈ lw_all := lw_g (lw_at lw_m15 81 rfl) rfl
theorem q3545 : (Jvm.Cond.privateMethod ({ cls := "FoldListerModel", name := "comesTo", desc := "(I)V" } : Jvm.MethodName)) ∈ lw_tbl := lw_at lw_m15 82 rfl
theorem q3546 : (Jvm.Cond.instanceMethod ({ cls := "FoldListerModel", name := "comesTo", desc := "(I)V" } : Jvm.MethodName)) ∈ lw_all := lw_g (lw_at lw_m15 83 rfl) rfl
theorem q3547 : (Jvm.Cond.code ({ cls := "FoldListerModel", name := "comesTo", desc := "(I)V" } : Jvm.MethodName) prog_21_method_125_code (3 : Nat) (Option.none : Option Jvm.ClassFile.FieldType)) ∈ lw_all := lw_g (lw_at lw_m15 84 rfl) rfl
theorem q3549 : (Jvm.Cond.instanceMethod ({ cls := "FoldListerModel", name := "follow", desc := "()I" } : Jvm.MethodName)) ∈ lw_all := lw_g (lw_at lw_m15 86 rfl) rfl
theorem q3550 : (Jvm.Cond.selects "FoldListerModel" ({ cls := "FoldListerModel", name := "follow", desc := "()I" } : Jvm.MethodName) ({ cls := "FoldListerModel", name := "follow", desc := "()I" } : Jvm.MethodName)) ∈ lw_all := lw_g (lw_at lw_m15 87 rfl) rfl
theorem q3551 : (Jvm.Cond.code ({ cls := "FoldListerModel", name := "follow", desc := "()I" } : Jvm.MethodName) prog_21_method_128_code (3 : Nat) (Option.some Jvm.ClassFile.FieldType.int)) ∈ lw_all := lw_g (lw_at lw_m15 88 rfl) rfl
theorem q3553 : (Jvm.Cond.instanceMethod ({ cls := "FoldListerModel", name := "back", desc := "()I" } : Jvm.MethodName)) ∈ lw_all := lw_g (lw_at lw_m15 90 rfl) rfl
theorem q3554 : (Jvm.Cond.selects "FoldListerModel" ({ cls := "FoldListerModel", name := "back", desc := "()I" } : Jvm.MethodName) ({ cls := "FoldListerModel", name := "back", desc := "()I" } : Jvm.MethodName)) ∈ lw_all := lw_g (lw_at lw_m15 91 rfl) rfl
theorem q3555 : (Jvm.Cond.code ({ cls := "FoldListerModel", name := "back", desc := "()I" } : Jvm.MethodName) prog_21_method_130_code (1 : Nat) (Option.some Jvm.ClassFile.FieldType.int)) ∈ lw_all := lw_g (lw_at lw_m15 92 rfl) rfl
theorem q3556 : (Jvm.Cond.methodLink "FoldListerModel" (326 : Nat) ({ cls := "FoldListerModel", name := "takes", desc := "(IIII)I" } : Jvm.MethodName)) ∈ lw_all := lw_g (lw_at lw_m15 93 rfl) rfl
theorem q3557 : (Jvm.Cond.privateMethod ({ cls := "FoldListerModel", name := "takes", desc := "(IIII)I" } : Jvm.MethodName)) ∈ lw_tbl := lw_at lw_m15 94 rfl
theorem q3558 : (Jvm.Cond.instanceMethod ({ cls := "FoldListerModel", name := "takes", desc := "(IIII)I" } : Jvm.MethodName)) ∈ lw_all := lw_g (lw_at lw_m15 95 rfl) rfl
theorem q3559 : (Jvm.Cond.code ({ cls := "FoldListerModel", name := "takes", desc := "(IIII)I" } : Jvm.MethodName) prog_21_method_129_code (5 : Nat) (Option.some Jvm.ClassFile.FieldType.int)) ∈ lw_all := lw_g (lw_at lw_m15 96 rfl) rfl
theorem q3561 : (Jvm.Cond.instanceMethod ({ cls := "FoldListerModel", name := "forward", desc := "()I" } : Jvm.MethodName)) ∈ lw_all := lw_g (lw_at lw_m15 98 rfl) rfl
theorem q3562 : (Jvm.Cond.selects "FoldListerModel" ({ cls := "FoldListerModel", name := "forward", desc := "()I" } : Jvm.MethodName) ({ cls := "FoldListerModel", name := "forward", desc := "()I" } : Jvm.MethodName)) ∈ lw_all := lw_g (lw_at lw_m15 99 rfl) rfl
theorem q3563 : (Jvm.Cond.code ({ cls := "FoldListerModel", name := "forward", desc := "()I" } : Jvm.MethodName) prog_21_method_131_code (1 : Nat) (Option.some Jvm.ClassFile.FieldType.int)) ∈ lw_all := lw_g (lw_at lw_m15 100 rfl) rfl
theorem q3565 : (Jvm.Cond.instanceMethod ({ cls := "FoldListerModel", name := "undo", desc := "()I" } : Jvm.MethodName)) ∈ lw_all := lw_g (lw_at lw_m15 102 rfl) rfl
theorem q3566 : (Jvm.Cond.selects "FoldListerModel" ({ cls := "FoldListerModel", name := "undo", desc := "()I" } : Jvm.MethodName) ({ cls := "FoldListerModel", name := "undo", desc := "()I" } : Jvm.MethodName)) ∈ lw_all := lw_g (lw_at lw_m15 103 rfl) rfl
theorem q3567 : (Jvm.Cond.code ({ cls := "FoldListerModel", name := "undo", desc := "()I" } : Jvm.MethodName) prog_21_method_132_code (1 : Nat) (Option.some Jvm.ClassFile.FieldType.int)) ∈ lw_all := lw_g (lw_at lw_m15 104 rfl) rfl
theorem q3569 : (Jvm.Cond.instanceMethod ({ cls := "FoldListerModel", name := "undoable", desc := "()I" } : Jvm.MethodName)) ∈ lw_all := lw_g (lw_at lw_m15 106 rfl) rfl
theorem q3570 : (Jvm.Cond.selects "FoldListerModel" ({ cls := "FoldListerModel", name := "undoable", desc := "()I" } : Jvm.MethodName) ({ cls := "FoldListerModel", name := "undoable", desc := "()I" } : Jvm.MethodName)) ∈ lw_all := lw_g (lw_at lw_m15 107 rfl) rfl
theorem q3571 : (Jvm.Cond.code ({ cls := "FoldListerModel", name := "undoable", desc := "()I" } : Jvm.MethodName) prog_21_method_133_code (1 : Nat) (Option.some Jvm.ClassFile.FieldType.int)) ∈ lw_all := lw_g (lw_at lw_m15 108 rfl) rfl
theorem q3573 : (Jvm.Cond.instanceMethod ({ cls := "FoldListerModel", name := "save", desc := "(I)I" } : Jvm.MethodName)) ∈ lw_all := lw_g (lw_at lw_m15 110 rfl) rfl
theorem q3574 : (Jvm.Cond.selects "FoldListerModel" ({ cls := "FoldListerModel", name := "save", desc := "(I)I" } : Jvm.MethodName) ({ cls := "FoldListerModel", name := "save", desc := "(I)I" } : Jvm.MethodName)) ∈ lw_all := lw_g (lw_at lw_m15 111 rfl) rfl
theorem q3575 : (Jvm.Cond.code ({ cls := "FoldListerModel", name := "save", desc := "(I)I" } : Jvm.MethodName) prog_21_method_134_code (2 : Nat) (Option.some Jvm.ClassFile.FieldType.int)) ∈ lw_all := lw_g (lw_at lw_m15 112 rfl) rfl
theorem q3577 : (Jvm.Cond.instanceMethod ({ cls := "FoldListerModel", name := "restore", desc := "(I)I" } : Jvm.MethodName)) ∈ lw_all := lw_g (lw_at lw_m15 114 rfl) rfl
theorem q3578 : (Jvm.Cond.selects "FoldListerModel" ({ cls := "FoldListerModel", name := "restore", desc := "(I)I" } : Jvm.MethodName) ({ cls := "FoldListerModel", name := "restore", desc := "(I)I" } : Jvm.MethodName)) ∈ lw_all := lw_g (lw_at lw_m15 115 rfl) rfl
theorem q3579 : (Jvm.Cond.code ({ cls := "FoldListerModel", name := "restore", desc := "(I)I" } : Jvm.MethodName) prog_21_method_135_code (3 : Nat) (Option.some Jvm.ClassFile.FieldType.int)) ∈ lw_all := lw_g (lw_at lw_m15 116 rfl) rfl
theorem q3611 : (Jvm.Cond.castable "FoldListerModel" "java/lang/Object") ∈ lw_tbl := lw_at lw_m15 148 rfl
theorem in_X3 : ∀ w ∈ wsX30, w ∈ lw_all := lw_in wsX30 [2999, 3001, 3003, 3005, 3007, 3009, 3011, 3013, 3015, 3017, 3019, 3021, 3023, 3025, 3027, 3029, 3031, 3033, 3035, 3037, 3039, 3041, 3043, 3045, 3047, 3049, 3051, 3053, 3055] (by decide +kernel) (by decide +kernel)
