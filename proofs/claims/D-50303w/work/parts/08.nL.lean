/-! FoldListerLaw -/
set_option maxRecDepth 100000
def RX0 : String := "FoldListerLaw"
abbrev cX0_load : ByteArray := method_3_code
def yX0_load : MethodName := ⟨RX0, "load", "(LFoldLister;I[J)I"⟩
def dkwX0_load_0 : List UInt8 := [44, 3, 42, 27, 182, 0, 7, 133, 80, 167, 0, 9, 78, 4, 172, 78, 5, 172, 3, 172]
abbrev dktX0_load_0 : List UInt8 := dkwX0_load_0 ++ []
theorem dksX0_load_0 : cX0_load.data.toList.drop 0 = dktX0_load_0 := by decide +kernel
theorem dX0_load_0 : decode cX0_load 0 = .ok (.aload_n 2, 1) := dk_44 (dk_at dksX0_load_0 0 rfl rfl)
theorem dX0_load_1 : decode cX0_load 1 = .ok (.iconst 0, 1) := dk_3 (dk_at dksX0_load_0 1 rfl rfl)
theorem dX0_load_2 : decode cX0_load 2 = .ok (.aload_n 0, 1) := dk_42 (dk_at dksX0_load_0 2 rfl rfl)
theorem dX0_load_3 : decode cX0_load 3 = .ok (.iload_n 1, 1) := dk_27 (dk_at dksX0_load_0 3 rfl rfl)
theorem dX0_load_4 : decode cX0_load 4 = .ok (.invokevirtual 7, 3) := dk_182 0 7 (dk_at dksX0_load_0 4 rfl rfl)
theorem dX0_load_7 : decode cX0_load 7 = .ok (.i2l, 1) := dk_133 (dk_at dksX0_load_0 7 rfl rfl)
theorem dX0_load_8 : decode cX0_load 8 = .ok (.lastore, 1) := dk_80 (dk_at dksX0_load_0 8 rfl rfl)
theorem dX0_load_9 : decode cX0_load 9 = .ok (.goto 9, 3) := dk_167 0 9 (dk_at dksX0_load_0 9 rfl rfl)
theorem dX0_load_12 : decode cX0_load 12 = .ok (.astore_n 3, 1) := dk_78 (dk_at dksX0_load_0 12 rfl rfl)
theorem dX0_load_13 : decode cX0_load 13 = .ok (.iconst 1, 1) := dk_4 (dk_at dksX0_load_0 13 rfl rfl)
theorem dX0_load_14 : decode cX0_load 14 = .ok (.ireturn, 1) := dk_172 (dk_at dksX0_load_0 14 rfl rfl)
theorem dX0_load_15 : decode cX0_load 15 = .ok (.astore_n 3, 1) := dk_78 (dk_at dksX0_load_0 15 rfl rfl)
theorem dX0_load_16 : decode cX0_load 16 = .ok (.iconst 2, 1) := dk_5 (dk_at dksX0_load_0 16 rfl rfl)
theorem dX0_load_17 : decode cX0_load 17 = .ok (.ireturn, 1) := dk_172 (dk_at dksX0_load_0 17 rfl rfl)
theorem dX0_load_18 : decode cX0_load 18 = .ok (.iconst 0, 1) := dk_3 (dk_at dksX0_load_0 18 rfl rfl)
theorem dX0_load_19 : decode cX0_load 19 = .ok (.ireturn, 1) := dk_172 (dk_at dksX0_load_0 19 rfl rfl)
abbrev cX0_count : ByteArray := method_4_code
def yX0_count : MethodName := ⟨RX0, "count", "(LFoldLister;I[J)I"⟩
def dkwX0_count_0 : List UInt8 := [44, 3, 42, 27, 182, 0, 17, 133, 80, 167, 0, 6, 78, 4, 172, 3, 172]
abbrev dktX0_count_0 : List UInt8 := dkwX0_count_0 ++ []
theorem dksX0_count_0 : cX0_count.data.toList.drop 0 = dktX0_count_0 := by decide +kernel
theorem dX0_count_0 : decode cX0_count 0 = .ok (.aload_n 2, 1) := dk_44 (dk_at dksX0_count_0 0 rfl rfl)
theorem dX0_count_1 : decode cX0_count 1 = .ok (.iconst 0, 1) := dk_3 (dk_at dksX0_count_0 1 rfl rfl)
theorem dX0_count_2 : decode cX0_count 2 = .ok (.aload_n 0, 1) := dk_42 (dk_at dksX0_count_0 2 rfl rfl)
theorem dX0_count_3 : decode cX0_count 3 = .ok (.iload_n 1, 1) := dk_27 (dk_at dksX0_count_0 3 rfl rfl)
theorem dX0_count_4 : decode cX0_count 4 = .ok (.invokevirtual 17, 3) := dk_182 0 17 (dk_at dksX0_count_0 4 rfl rfl)
theorem dX0_count_7 : decode cX0_count 7 = .ok (.i2l, 1) := dk_133 (dk_at dksX0_count_0 7 rfl rfl)
theorem dX0_count_8 : decode cX0_count 8 = .ok (.lastore, 1) := dk_80 (dk_at dksX0_count_0 8 rfl rfl)
theorem dX0_count_9 : decode cX0_count 9 = .ok (.goto 6, 3) := dk_167 0 6 (dk_at dksX0_count_0 9 rfl rfl)
theorem dX0_count_12 : decode cX0_count 12 = .ok (.astore_n 3, 1) := dk_78 (dk_at dksX0_count_0 12 rfl rfl)
theorem dX0_count_13 : decode cX0_count 13 = .ok (.iconst 1, 1) := dk_4 (dk_at dksX0_count_0 13 rfl rfl)
theorem dX0_count_14 : decode cX0_count 14 = .ok (.ireturn, 1) := dk_172 (dk_at dksX0_count_0 14 rfl rfl)
theorem dX0_count_15 : decode cX0_count 15 = .ok (.iconst 0, 1) := dk_3 (dk_at dksX0_count_0 15 rfl rfl)
theorem dX0_count_16 : decode cX0_count 16 = .ok (.ireturn, 1) := dk_172 (dk_at dksX0_count_0 16 rfl rfl)
abbrev cX0_line : ByteArray := method_5_code
def yX0_line : MethodName := ⟨RX0, "line", "(LFoldLister;II[J)I"⟩
def dkwX0_line_0 : List UInt8 := [45, 3, 42, 27, 28, 182, 0, 20, 133, 80, 167, 0, 11, 58, 4, 4, 172, 58, 4, 5, 172, 3, 172]
abbrev dktX0_line_0 : List UInt8 := dkwX0_line_0 ++ []
theorem dksX0_line_0 : cX0_line.data.toList.drop 0 = dktX0_line_0 := by decide +kernel
theorem dX0_line_0 : decode cX0_line 0 = .ok (.aload_n 3, 1) := dk_45 (dk_at dksX0_line_0 0 rfl rfl)
theorem dX0_line_1 : decode cX0_line 1 = .ok (.iconst 0, 1) := dk_3 (dk_at dksX0_line_0 1 rfl rfl)
theorem dX0_line_2 : decode cX0_line 2 = .ok (.aload_n 0, 1) := dk_42 (dk_at dksX0_line_0 2 rfl rfl)
theorem dX0_line_3 : decode cX0_line 3 = .ok (.iload_n 1, 1) := dk_27 (dk_at dksX0_line_0 3 rfl rfl)
theorem dX0_line_4 : decode cX0_line 4 = .ok (.iload_n 2, 1) := dk_28 (dk_at dksX0_line_0 4 rfl rfl)
theorem dX0_line_5 : decode cX0_line 5 = .ok (.invokevirtual 20, 3) := dk_182 0 20 (dk_at dksX0_line_0 5 rfl rfl)
theorem dX0_line_8 : decode cX0_line 8 = .ok (.i2l, 1) := dk_133 (dk_at dksX0_line_0 8 rfl rfl)
theorem dX0_line_9 : decode cX0_line 9 = .ok (.lastore, 1) := dk_80 (dk_at dksX0_line_0 9 rfl rfl)
theorem dX0_line_10 : decode cX0_line 10 = .ok (.goto 11, 3) := dk_167 0 11 (dk_at dksX0_line_0 10 rfl rfl)
theorem dX0_line_13 : decode cX0_line 13 = .ok (.astore 4, 2) := dk_58 4 (dk_at dksX0_line_0 13 rfl rfl)
theorem dX0_line_15 : decode cX0_line 15 = .ok (.iconst 1, 1) := dk_4 (dk_at dksX0_line_0 15 rfl rfl)
theorem dX0_line_16 : decode cX0_line 16 = .ok (.ireturn, 1) := dk_172 (dk_at dksX0_line_0 16 rfl rfl)
theorem dX0_line_17 : decode cX0_line 17 = .ok (.astore 4, 2) := dk_58 4 (dk_at dksX0_line_0 17 rfl rfl)
theorem dX0_line_19 : decode cX0_line 19 = .ok (.iconst 2, 1) := dk_5 (dk_at dksX0_line_0 19 rfl rfl)
theorem dX0_line_20 : decode cX0_line 20 = .ok (.ireturn, 1) := dk_172 (dk_at dksX0_line_0 20 rfl rfl)
theorem dX0_line_21 : decode cX0_line 21 = .ok (.iconst 0, 1) := dk_3 (dk_at dksX0_line_0 21 rfl rfl)
theorem dX0_line_22 : decode cX0_line 22 = .ok (.ireturn, 1) := dk_172 (dk_at dksX0_line_0 22 rfl rfl)
abbrev cX0_byteOf : ByteArray := method_6_code
def yX0_byteOf : MethodName := ⟨RX0, "byteOf", "(LFoldLister;II[J)I"⟩
def dkwX0_byteOf_0 : List UInt8 := [45, 3, 42, 27, 28, 182, 0, 24, 133, 80, 167, 0, 7, 58, 4, 4, 172, 3, 172]
abbrev dktX0_byteOf_0 : List UInt8 := dkwX0_byteOf_0 ++ []
theorem dksX0_byteOf_0 : cX0_byteOf.data.toList.drop 0 = dktX0_byteOf_0 := by decide +kernel
theorem dX0_byteOf_0 : decode cX0_byteOf 0 = .ok (.aload_n 3, 1) := dk_45 (dk_at dksX0_byteOf_0 0 rfl rfl)
theorem dX0_byteOf_1 : decode cX0_byteOf 1 = .ok (.iconst 0, 1) := dk_3 (dk_at dksX0_byteOf_0 1 rfl rfl)
theorem dX0_byteOf_2 : decode cX0_byteOf 2 = .ok (.aload_n 0, 1) := dk_42 (dk_at dksX0_byteOf_0 2 rfl rfl)
theorem dX0_byteOf_3 : decode cX0_byteOf 3 = .ok (.iload_n 1, 1) := dk_27 (dk_at dksX0_byteOf_0 3 rfl rfl)
theorem dX0_byteOf_4 : decode cX0_byteOf 4 = .ok (.iload_n 2, 1) := dk_28 (dk_at dksX0_byteOf_0 4 rfl rfl)
theorem dX0_byteOf_5 : decode cX0_byteOf 5 = .ok (.invokevirtual 24, 3) := dk_182 0 24 (dk_at dksX0_byteOf_0 5 rfl rfl)
theorem dX0_byteOf_8 : decode cX0_byteOf 8 = .ok (.i2l, 1) := dk_133 (dk_at dksX0_byteOf_0 8 rfl rfl)
theorem dX0_byteOf_9 : decode cX0_byteOf 9 = .ok (.lastore, 1) := dk_80 (dk_at dksX0_byteOf_0 9 rfl rfl)
theorem dX0_byteOf_10 : decode cX0_byteOf 10 = .ok (.goto 7, 3) := dk_167 0 7 (dk_at dksX0_byteOf_0 10 rfl rfl)
theorem dX0_byteOf_13 : decode cX0_byteOf 13 = .ok (.astore 4, 2) := dk_58 4 (dk_at dksX0_byteOf_0 13 rfl rfl)
theorem dX0_byteOf_15 : decode cX0_byteOf 15 = .ok (.iconst 1, 1) := dk_4 (dk_at dksX0_byteOf_0 15 rfl rfl)
theorem dX0_byteOf_16 : decode cX0_byteOf 16 = .ok (.ireturn, 1) := dk_172 (dk_at dksX0_byteOf_0 16 rfl rfl)
theorem dX0_byteOf_17 : decode cX0_byteOf 17 = .ok (.iconst 0, 1) := dk_3 (dk_at dksX0_byteOf_0 17 rfl rfl)
theorem dX0_byteOf_18 : decode cX0_byteOf 18 = .ok (.ireturn, 1) := dk_172 (dk_at dksX0_byteOf_0 18 rfl rfl)
abbrev cX0_lineOfRow : ByteArray := method_7_code
def yX0_lineOfRow : MethodName := ⟨RX0, "lineOfRow", "(LFoldLister;I[J)I"⟩
def dkwX0_lineOfRow_0 : List UInt8 := [44, 3, 42, 27, 182, 0, 27, 133, 80, 167, 0, 6, 78, 4, 172, 3, 172]
abbrev dktX0_lineOfRow_0 : List UInt8 := dkwX0_lineOfRow_0 ++ []
theorem dksX0_lineOfRow_0 : cX0_lineOfRow.data.toList.drop 0 = dktX0_lineOfRow_0 := by decide +kernel
theorem dX0_lineOfRow_0 : decode cX0_lineOfRow 0 = .ok (.aload_n 2, 1) := dk_44 (dk_at dksX0_lineOfRow_0 0 rfl rfl)
theorem dX0_lineOfRow_1 : decode cX0_lineOfRow 1 = .ok (.iconst 0, 1) := dk_3 (dk_at dksX0_lineOfRow_0 1 rfl rfl)
theorem dX0_lineOfRow_2 : decode cX0_lineOfRow 2 = .ok (.aload_n 0, 1) := dk_42 (dk_at dksX0_lineOfRow_0 2 rfl rfl)
theorem dX0_lineOfRow_3 : decode cX0_lineOfRow 3 = .ok (.iload_n 1, 1) := dk_27 (dk_at dksX0_lineOfRow_0 3 rfl rfl)
theorem dX0_lineOfRow_4 : decode cX0_lineOfRow 4 = .ok (.invokevirtual 27, 3) := dk_182 0 27 (dk_at dksX0_lineOfRow_0 4 rfl rfl)
theorem dX0_lineOfRow_7 : decode cX0_lineOfRow 7 = .ok (.i2l, 1) := dk_133 (dk_at dksX0_lineOfRow_0 7 rfl rfl)
theorem dX0_lineOfRow_8 : decode cX0_lineOfRow 8 = .ok (.lastore, 1) := dk_80 (dk_at dksX0_lineOfRow_0 8 rfl rfl)
theorem dX0_lineOfRow_9 : decode cX0_lineOfRow 9 = .ok (.goto 6, 3) := dk_167 0 6 (dk_at dksX0_lineOfRow_0 9 rfl rfl)
theorem dX0_lineOfRow_12 : decode cX0_lineOfRow 12 = .ok (.astore_n 3, 1) := dk_78 (dk_at dksX0_lineOfRow_0 12 rfl rfl)
theorem dX0_lineOfRow_13 : decode cX0_lineOfRow 13 = .ok (.iconst 1, 1) := dk_4 (dk_at dksX0_lineOfRow_0 13 rfl rfl)
theorem dX0_lineOfRow_14 : decode cX0_lineOfRow 14 = .ok (.ireturn, 1) := dk_172 (dk_at dksX0_lineOfRow_0 14 rfl rfl)
theorem dX0_lineOfRow_15 : decode cX0_lineOfRow 15 = .ok (.iconst 0, 1) := dk_3 (dk_at dksX0_lineOfRow_0 15 rfl rfl)
theorem dX0_lineOfRow_16 : decode cX0_lineOfRow 16 = .ok (.ireturn, 1) := dk_172 (dk_at dksX0_lineOfRow_0 16 rfl rfl)
abbrev cX0_rowNear : ByteArray := method_8_code
def yX0_rowNear : MethodName := ⟨RX0, "rowNear", "(LFoldLister;I[J)I"⟩
def dkwX0_rowNear_0 : List UInt8 := [44, 3, 42, 27, 182, 0, 30, 133, 80, 167, 0, 6, 78, 4, 172, 3, 172]
abbrev dktX0_rowNear_0 : List UInt8 := dkwX0_rowNear_0 ++ []
theorem dksX0_rowNear_0 : cX0_rowNear.data.toList.drop 0 = dktX0_rowNear_0 := by decide +kernel
theorem dX0_rowNear_0 : decode cX0_rowNear 0 = .ok (.aload_n 2, 1) := dk_44 (dk_at dksX0_rowNear_0 0 rfl rfl)
theorem dX0_rowNear_1 : decode cX0_rowNear 1 = .ok (.iconst 0, 1) := dk_3 (dk_at dksX0_rowNear_0 1 rfl rfl)
theorem dX0_rowNear_2 : decode cX0_rowNear 2 = .ok (.aload_n 0, 1) := dk_42 (dk_at dksX0_rowNear_0 2 rfl rfl)
theorem dX0_rowNear_3 : decode cX0_rowNear 3 = .ok (.iload_n 1, 1) := dk_27 (dk_at dksX0_rowNear_0 3 rfl rfl)
theorem dX0_rowNear_4 : decode cX0_rowNear 4 = .ok (.invokevirtual 30, 3) := dk_182 0 30 (dk_at dksX0_rowNear_0 4 rfl rfl)
theorem dX0_rowNear_7 : decode cX0_rowNear 7 = .ok (.i2l, 1) := dk_133 (dk_at dksX0_rowNear_0 7 rfl rfl)
theorem dX0_rowNear_8 : decode cX0_rowNear 8 = .ok (.lastore, 1) := dk_80 (dk_at dksX0_rowNear_0 8 rfl rfl)
theorem dX0_rowNear_9 : decode cX0_rowNear 9 = .ok (.goto 6, 3) := dk_167 0 6 (dk_at dksX0_rowNear_0 9 rfl rfl)
theorem dX0_rowNear_12 : decode cX0_rowNear 12 = .ok (.astore_n 3, 1) := dk_78 (dk_at dksX0_rowNear_0 12 rfl rfl)
theorem dX0_rowNear_13 : decode cX0_rowNear 13 = .ok (.iconst 1, 1) := dk_4 (dk_at dksX0_rowNear_0 13 rfl rfl)
theorem dX0_rowNear_14 : decode cX0_rowNear 14 = .ok (.ireturn, 1) := dk_172 (dk_at dksX0_rowNear_0 14 rfl rfl)
theorem dX0_rowNear_15 : decode cX0_rowNear 15 = .ok (.iconst 0, 1) := dk_3 (dk_at dksX0_rowNear_0 15 rfl rfl)
theorem dX0_rowNear_16 : decode cX0_rowNear 16 = .ok (.ireturn, 1) := dk_172 (dk_at dksX0_rowNear_0 16 rfl rfl)
abbrev cX0_rowsBetween : ByteArray := method_9_code
def yX0_rowsBetween : MethodName := ⟨RX0, "rowsBetween", "(LFoldLister;II[J)I"⟩
def dkwX0_rowsBetween_0 : List UInt8 := [45, 3, 42, 27, 28, 182, 0, 33, 133, 80, 167, 0, 7, 58, 4, 4, 172, 3, 172]
abbrev dktX0_rowsBetween_0 : List UInt8 := dkwX0_rowsBetween_0 ++ []
theorem dksX0_rowsBetween_0 : cX0_rowsBetween.data.toList.drop 0 = dktX0_rowsBetween_0 := by decide +kernel
theorem dX0_rowsBetween_0 : decode cX0_rowsBetween 0 = .ok (.aload_n 3, 1) := dk_45 (dk_at dksX0_rowsBetween_0 0 rfl rfl)
theorem dX0_rowsBetween_1 : decode cX0_rowsBetween 1 = .ok (.iconst 0, 1) := dk_3 (dk_at dksX0_rowsBetween_0 1 rfl rfl)
theorem dX0_rowsBetween_2 : decode cX0_rowsBetween 2 = .ok (.aload_n 0, 1) := dk_42 (dk_at dksX0_rowsBetween_0 2 rfl rfl)
theorem dX0_rowsBetween_3 : decode cX0_rowsBetween 3 = .ok (.iload_n 1, 1) := dk_27 (dk_at dksX0_rowsBetween_0 3 rfl rfl)
theorem dX0_rowsBetween_4 : decode cX0_rowsBetween 4 = .ok (.iload_n 2, 1) := dk_28 (dk_at dksX0_rowsBetween_0 4 rfl rfl)
theorem dX0_rowsBetween_5 : decode cX0_rowsBetween 5 = .ok (.invokevirtual 33, 3) := dk_182 0 33 (dk_at dksX0_rowsBetween_0 5 rfl rfl)
theorem dX0_rowsBetween_8 : decode cX0_rowsBetween 8 = .ok (.i2l, 1) := dk_133 (dk_at dksX0_rowsBetween_0 8 rfl rfl)
theorem dX0_rowsBetween_9 : decode cX0_rowsBetween 9 = .ok (.lastore, 1) := dk_80 (dk_at dksX0_rowsBetween_0 9 rfl rfl)
theorem dX0_rowsBetween_10 : decode cX0_rowsBetween 10 = .ok (.goto 7, 3) := dk_167 0 7 (dk_at dksX0_rowsBetween_0 10 rfl rfl)
theorem dX0_rowsBetween_13 : decode cX0_rowsBetween 13 = .ok (.astore 4, 2) := dk_58 4 (dk_at dksX0_rowsBetween_0 13 rfl rfl)
theorem dX0_rowsBetween_15 : decode cX0_rowsBetween 15 = .ok (.iconst 1, 1) := dk_4 (dk_at dksX0_rowsBetween_0 15 rfl rfl)
theorem dX0_rowsBetween_16 : decode cX0_rowsBetween 16 = .ok (.ireturn, 1) := dk_172 (dk_at dksX0_rowsBetween_0 16 rfl rfl)
theorem dX0_rowsBetween_17 : decode cX0_rowsBetween 17 = .ok (.iconst 0, 1) := dk_3 (dk_at dksX0_rowsBetween_0 17 rfl rfl)
theorem dX0_rowsBetween_18 : decode cX0_rowsBetween 18 = .ok (.ireturn, 1) := dk_172 (dk_at dksX0_rowsBetween_0 18 rfl rfl)
abbrev cX0_seek : ByteArray := method_10_code
def yX0_seek : MethodName := ⟨RX0, "seek", "(LFoldLister;IIZ[J)I"⟩
def dkwX0_seek_0 : List UInt8 := [25, 4, 3, 42, 27, 28, 29, 182, 0, 36, 133, 80, 167, 0, 7, 58, 5, 4, 172, 3, 172]
abbrev dktX0_seek_0 : List UInt8 := dkwX0_seek_0 ++ []
theorem dksX0_seek_0 : cX0_seek.data.toList.drop 0 = dktX0_seek_0 := by decide +kernel
theorem dX0_seek_0 : decode cX0_seek 0 = .ok (.aload 4, 2) := dk_25 4 (dk_at dksX0_seek_0 0 rfl rfl)
theorem dX0_seek_2 : decode cX0_seek 2 = .ok (.iconst 0, 1) := dk_3 (dk_at dksX0_seek_0 2 rfl rfl)
theorem dX0_seek_3 : decode cX0_seek 3 = .ok (.aload_n 0, 1) := dk_42 (dk_at dksX0_seek_0 3 rfl rfl)
theorem dX0_seek_4 : decode cX0_seek 4 = .ok (.iload_n 1, 1) := dk_27 (dk_at dksX0_seek_0 4 rfl rfl)
theorem dX0_seek_5 : decode cX0_seek 5 = .ok (.iload_n 2, 1) := dk_28 (dk_at dksX0_seek_0 5 rfl rfl)
theorem dX0_seek_6 : decode cX0_seek 6 = .ok (.iload_n 3, 1) := dk_29 (dk_at dksX0_seek_0 6 rfl rfl)
theorem dX0_seek_7 : decode cX0_seek 7 = .ok (.invokevirtual 36, 3) := dk_182 0 36 (dk_at dksX0_seek_0 7 rfl rfl)
theorem dX0_seek_10 : decode cX0_seek 10 = .ok (.i2l, 1) := dk_133 (dk_at dksX0_seek_0 10 rfl rfl)
theorem dX0_seek_11 : decode cX0_seek 11 = .ok (.lastore, 1) := dk_80 (dk_at dksX0_seek_0 11 rfl rfl)
theorem dX0_seek_12 : decode cX0_seek 12 = .ok (.goto 7, 3) := dk_167 0 7 (dk_at dksX0_seek_0 12 rfl rfl)
theorem dX0_seek_15 : decode cX0_seek 15 = .ok (.astore 5, 2) := dk_58 5 (dk_at dksX0_seek_0 15 rfl rfl)
theorem dX0_seek_17 : decode cX0_seek 17 = .ok (.iconst 1, 1) := dk_4 (dk_at dksX0_seek_0 17 rfl rfl)
theorem dX0_seek_18 : decode cX0_seek 18 = .ok (.ireturn, 1) := dk_172 (dk_at dksX0_seek_0 18 rfl rfl)
theorem dX0_seek_19 : decode cX0_seek 19 = .ok (.iconst 0, 1) := dk_3 (dk_at dksX0_seek_0 19 rfl rfl)
theorem dX0_seek_20 : decode cX0_seek 20 = .ok (.ireturn, 1) := dk_172 (dk_at dksX0_seek_0 20 rfl rfl)
abbrev cX0_region : ByteArray := method_11_code
def yX0_region : MethodName := ⟨RX0, "region", "(LFoldLister;II[J)I"⟩
def dkwX0_region_0 : List UInt8 := [45, 3, 42, 27, 28, 182, 0, 40, 133, 80, 167, 0, 11, 58, 4, 4, 172, 58, 4, 5, 172, 3, 172]
abbrev dktX0_region_0 : List UInt8 := dkwX0_region_0 ++ []
theorem dksX0_region_0 : cX0_region.data.toList.drop 0 = dktX0_region_0 := by decide +kernel
theorem dX0_region_0 : decode cX0_region 0 = .ok (.aload_n 3, 1) := dk_45 (dk_at dksX0_region_0 0 rfl rfl)
theorem dX0_region_1 : decode cX0_region 1 = .ok (.iconst 0, 1) := dk_3 (dk_at dksX0_region_0 1 rfl rfl)
theorem dX0_region_2 : decode cX0_region 2 = .ok (.aload_n 0, 1) := dk_42 (dk_at dksX0_region_0 2 rfl rfl)
theorem dX0_region_3 : decode cX0_region 3 = .ok (.iload_n 1, 1) := dk_27 (dk_at dksX0_region_0 3 rfl rfl)
theorem dX0_region_4 : decode cX0_region 4 = .ok (.iload_n 2, 1) := dk_28 (dk_at dksX0_region_0 4 rfl rfl)
theorem dX0_region_5 : decode cX0_region 5 = .ok (.invokevirtual 40, 3) := dk_182 0 40 (dk_at dksX0_region_0 5 rfl rfl)
theorem dX0_region_8 : decode cX0_region 8 = .ok (.i2l, 1) := dk_133 (dk_at dksX0_region_0 8 rfl rfl)
theorem dX0_region_9 : decode cX0_region 9 = .ok (.lastore, 1) := dk_80 (dk_at dksX0_region_0 9 rfl rfl)
theorem dX0_region_10 : decode cX0_region 10 = .ok (.goto 11, 3) := dk_167 0 11 (dk_at dksX0_region_0 10 rfl rfl)
theorem dX0_region_13 : decode cX0_region 13 = .ok (.astore 4, 2) := dk_58 4 (dk_at dksX0_region_0 13 rfl rfl)
theorem dX0_region_15 : decode cX0_region 15 = .ok (.iconst 1, 1) := dk_4 (dk_at dksX0_region_0 15 rfl rfl)
theorem dX0_region_16 : decode cX0_region 16 = .ok (.ireturn, 1) := dk_172 (dk_at dksX0_region_0 16 rfl rfl)
theorem dX0_region_17 : decode cX0_region 17 = .ok (.astore 4, 2) := dk_58 4 (dk_at dksX0_region_0 17 rfl rfl)
theorem dX0_region_19 : decode cX0_region 19 = .ok (.iconst 2, 1) := dk_5 (dk_at dksX0_region_0 19 rfl rfl)
theorem dX0_region_20 : decode cX0_region 20 = .ok (.ireturn, 1) := dk_172 (dk_at dksX0_region_0 20 rfl rfl)
theorem dX0_region_21 : decode cX0_region 21 = .ok (.iconst 0, 1) := dk_3 (dk_at dksX0_region_0 21 rfl rfl)
theorem dX0_region_22 : decode cX0_region 22 = .ok (.ireturn, 1) := dk_172 (dk_at dksX0_region_0 22 rfl rfl)
abbrev cX0_regionAt : ByteArray := method_12_code
def yX0_regionAt : MethodName := ⟨RX0, "regionAt", "(LFoldLister;I[J)I"⟩
def dkwX0_regionAt_0 : List UInt8 := [44, 3, 42, 27, 182, 0, 43, 133, 80, 167, 0, 6, 78, 4, 172, 3, 172]
abbrev dktX0_regionAt_0 : List UInt8 := dkwX0_regionAt_0 ++ []
theorem dksX0_regionAt_0 : cX0_regionAt.data.toList.drop 0 = dktX0_regionAt_0 := by decide +kernel
theorem dX0_regionAt_0 : decode cX0_regionAt 0 = .ok (.aload_n 2, 1) := dk_44 (dk_at dksX0_regionAt_0 0 rfl rfl)
theorem dX0_regionAt_1 : decode cX0_regionAt 1 = .ok (.iconst 0, 1) := dk_3 (dk_at dksX0_regionAt_0 1 rfl rfl)
theorem dX0_regionAt_2 : decode cX0_regionAt 2 = .ok (.aload_n 0, 1) := dk_42 (dk_at dksX0_regionAt_0 2 rfl rfl)
theorem dX0_regionAt_3 : decode cX0_regionAt 3 = .ok (.iload_n 1, 1) := dk_27 (dk_at dksX0_regionAt_0 3 rfl rfl)
theorem dX0_regionAt_4 : decode cX0_regionAt 4 = .ok (.invokevirtual 43, 3) := dk_182 0 43 (dk_at dksX0_regionAt_0 4 rfl rfl)
theorem dX0_regionAt_7 : decode cX0_regionAt 7 = .ok (.i2l, 1) := dk_133 (dk_at dksX0_regionAt_0 7 rfl rfl)
theorem dX0_regionAt_8 : decode cX0_regionAt 8 = .ok (.lastore, 1) := dk_80 (dk_at dksX0_regionAt_0 8 rfl rfl)
theorem dX0_regionAt_9 : decode cX0_regionAt 9 = .ok (.goto 6, 3) := dk_167 0 6 (dk_at dksX0_regionAt_0 9 rfl rfl)
theorem dX0_regionAt_12 : decode cX0_regionAt 12 = .ok (.astore_n 3, 1) := dk_78 (dk_at dksX0_regionAt_0 12 rfl rfl)
theorem dX0_regionAt_13 : decode cX0_regionAt 13 = .ok (.iconst 1, 1) := dk_4 (dk_at dksX0_regionAt_0 13 rfl rfl)
theorem dX0_regionAt_14 : decode cX0_regionAt 14 = .ok (.ireturn, 1) := dk_172 (dk_at dksX0_regionAt_0 14 rfl rfl)
theorem dX0_regionAt_15 : decode cX0_regionAt 15 = .ok (.iconst 0, 1) := dk_3 (dk_at dksX0_regionAt_0 15 rfl rfl)
theorem dX0_regionAt_16 : decode cX0_regionAt 16 = .ok (.ireturn, 1) := dk_172 (dk_at dksX0_regionAt_0 16 rfl rfl)
abbrev cX0_hiddenBy : ByteArray := method_13_code
def yX0_hiddenBy : MethodName := ⟨RX0, "hiddenBy", "(LFoldLister;I[J)I"⟩
def dkwX0_hiddenBy_0 : List UInt8 := [44, 3, 42, 27, 182, 0, 46, 133, 80, 167, 0, 6, 78, 4, 172, 3, 172]
abbrev dktX0_hiddenBy_0 : List UInt8 := dkwX0_hiddenBy_0 ++ []
theorem dksX0_hiddenBy_0 : cX0_hiddenBy.data.toList.drop 0 = dktX0_hiddenBy_0 := by decide +kernel
theorem dX0_hiddenBy_0 : decode cX0_hiddenBy 0 = .ok (.aload_n 2, 1) := dk_44 (dk_at dksX0_hiddenBy_0 0 rfl rfl)
theorem dX0_hiddenBy_1 : decode cX0_hiddenBy 1 = .ok (.iconst 0, 1) := dk_3 (dk_at dksX0_hiddenBy_0 1 rfl rfl)
theorem dX0_hiddenBy_2 : decode cX0_hiddenBy 2 = .ok (.aload_n 0, 1) := dk_42 (dk_at dksX0_hiddenBy_0 2 rfl rfl)
theorem dX0_hiddenBy_3 : decode cX0_hiddenBy 3 = .ok (.iload_n 1, 1) := dk_27 (dk_at dksX0_hiddenBy_0 3 rfl rfl)
theorem dX0_hiddenBy_4 : decode cX0_hiddenBy 4 = .ok (.invokevirtual 46, 3) := dk_182 0 46 (dk_at dksX0_hiddenBy_0 4 rfl rfl)
theorem dX0_hiddenBy_7 : decode cX0_hiddenBy 7 = .ok (.i2l, 1) := dk_133 (dk_at dksX0_hiddenBy_0 7 rfl rfl)
theorem dX0_hiddenBy_8 : decode cX0_hiddenBy 8 = .ok (.lastore, 1) := dk_80 (dk_at dksX0_hiddenBy_0 8 rfl rfl)
theorem dX0_hiddenBy_9 : decode cX0_hiddenBy 9 = .ok (.goto 6, 3) := dk_167 0 6 (dk_at dksX0_hiddenBy_0 9 rfl rfl)
theorem dX0_hiddenBy_12 : decode cX0_hiddenBy 12 = .ok (.astore_n 3, 1) := dk_78 (dk_at dksX0_hiddenBy_0 12 rfl rfl)
theorem dX0_hiddenBy_13 : decode cX0_hiddenBy 13 = .ok (.iconst 1, 1) := dk_4 (dk_at dksX0_hiddenBy_0 13 rfl rfl)
theorem dX0_hiddenBy_14 : decode cX0_hiddenBy 14 = .ok (.ireturn, 1) := dk_172 (dk_at dksX0_hiddenBy_0 14 rfl rfl)
theorem dX0_hiddenBy_15 : decode cX0_hiddenBy 15 = .ok (.iconst 0, 1) := dk_3 (dk_at dksX0_hiddenBy_0 15 rfl rfl)
theorem dX0_hiddenBy_16 : decode cX0_hiddenBy 16 = .ok (.ireturn, 1) := dk_172 (dk_at dksX0_hiddenBy_0 16 rfl rfl)
abbrev cX0_partner : ByteArray := method_14_code
def yX0_partner : MethodName := ⟨RX0, "partner", "(LFoldLister;II[J)I"⟩
def dkwX0_partner_0 : List UInt8 := [45, 3, 42, 27, 28, 182, 0, 49, 133, 80, 167, 0, 11, 58, 4, 4, 172, 58, 4, 5, 172, 3, 172]
abbrev dktX0_partner_0 : List UInt8 := dkwX0_partner_0 ++ []
theorem dksX0_partner_0 : cX0_partner.data.toList.drop 0 = dktX0_partner_0 := by decide +kernel
theorem dX0_partner_0 : decode cX0_partner 0 = .ok (.aload_n 3, 1) := dk_45 (dk_at dksX0_partner_0 0 rfl rfl)
theorem dX0_partner_1 : decode cX0_partner 1 = .ok (.iconst 0, 1) := dk_3 (dk_at dksX0_partner_0 1 rfl rfl)
theorem dX0_partner_2 : decode cX0_partner 2 = .ok (.aload_n 0, 1) := dk_42 (dk_at dksX0_partner_0 2 rfl rfl)
theorem dX0_partner_3 : decode cX0_partner 3 = .ok (.iload_n 1, 1) := dk_27 (dk_at dksX0_partner_0 3 rfl rfl)
theorem dX0_partner_4 : decode cX0_partner 4 = .ok (.iload_n 2, 1) := dk_28 (dk_at dksX0_partner_0 4 rfl rfl)
theorem dX0_partner_5 : decode cX0_partner 5 = .ok (.invokevirtual 49, 3) := dk_182 0 49 (dk_at dksX0_partner_0 5 rfl rfl)
theorem dX0_partner_8 : decode cX0_partner 8 = .ok (.i2l, 1) := dk_133 (dk_at dksX0_partner_0 8 rfl rfl)
theorem dX0_partner_9 : decode cX0_partner 9 = .ok (.lastore, 1) := dk_80 (dk_at dksX0_partner_0 9 rfl rfl)
theorem dX0_partner_10 : decode cX0_partner 10 = .ok (.goto 11, 3) := dk_167 0 11 (dk_at dksX0_partner_0 10 rfl rfl)
theorem dX0_partner_13 : decode cX0_partner 13 = .ok (.astore 4, 2) := dk_58 4 (dk_at dksX0_partner_0 13 rfl rfl)
theorem dX0_partner_15 : decode cX0_partner 15 = .ok (.iconst 1, 1) := dk_4 (dk_at dksX0_partner_0 15 rfl rfl)
theorem dX0_partner_16 : decode cX0_partner 16 = .ok (.ireturn, 1) := dk_172 (dk_at dksX0_partner_0 16 rfl rfl)
theorem dX0_partner_17 : decode cX0_partner 17 = .ok (.astore 4, 2) := dk_58 4 (dk_at dksX0_partner_0 17 rfl rfl)
theorem dX0_partner_19 : decode cX0_partner 19 = .ok (.iconst 2, 1) := dk_5 (dk_at dksX0_partner_0 19 rfl rfl)
theorem dX0_partner_20 : decode cX0_partner 20 = .ok (.ireturn, 1) := dk_172 (dk_at dksX0_partner_0 20 rfl rfl)
theorem dX0_partner_21 : decode cX0_partner 21 = .ok (.iconst 0, 1) := dk_3 (dk_at dksX0_partner_0 21 rfl rfl)
theorem dX0_partner_22 : decode cX0_partner 22 = .ok (.ireturn, 1) := dk_172 (dk_at dksX0_partner_0 22 rfl rfl)
abbrev cX0_loose : ByteArray := method_15_code
def yX0_loose : MethodName := ⟨RX0, "loose", "(LFoldLister;I[J)I"⟩
def dkwX0_loose_0 : List UInt8 := [44, 3, 42, 27, 182, 0, 52, 133, 80, 167, 0, 6, 78, 4, 172, 3, 172]
abbrev dktX0_loose_0 : List UInt8 := dkwX0_loose_0 ++ []
theorem dksX0_loose_0 : cX0_loose.data.toList.drop 0 = dktX0_loose_0 := by decide +kernel
theorem dX0_loose_0 : decode cX0_loose 0 = .ok (.aload_n 2, 1) := dk_44 (dk_at dksX0_loose_0 0 rfl rfl)
theorem dX0_loose_1 : decode cX0_loose 1 = .ok (.iconst 0, 1) := dk_3 (dk_at dksX0_loose_0 1 rfl rfl)
theorem dX0_loose_2 : decode cX0_loose 2 = .ok (.aload_n 0, 1) := dk_42 (dk_at dksX0_loose_0 2 rfl rfl)
theorem dX0_loose_3 : decode cX0_loose 3 = .ok (.iload_n 1, 1) := dk_27 (dk_at dksX0_loose_0 3 rfl rfl)
theorem dX0_loose_4 : decode cX0_loose 4 = .ok (.invokevirtual 52, 3) := dk_182 0 52 (dk_at dksX0_loose_0 4 rfl rfl)
theorem dX0_loose_7 : decode cX0_loose 7 = .ok (.i2l, 1) := dk_133 (dk_at dksX0_loose_0 7 rfl rfl)
theorem dX0_loose_8 : decode cX0_loose 8 = .ok (.lastore, 1) := dk_80 (dk_at dksX0_loose_0 8 rfl rfl)
theorem dX0_loose_9 : decode cX0_loose 9 = .ok (.goto 6, 3) := dk_167 0 6 (dk_at dksX0_loose_0 9 rfl rfl)
theorem dX0_loose_12 : decode cX0_loose 12 = .ok (.astore_n 3, 1) := dk_78 (dk_at dksX0_loose_0 12 rfl rfl)
theorem dX0_loose_13 : decode cX0_loose 13 = .ok (.iconst 1, 1) := dk_4 (dk_at dksX0_loose_0 13 rfl rfl)
theorem dX0_loose_14 : decode cX0_loose 14 = .ok (.ireturn, 1) := dk_172 (dk_at dksX0_loose_0 14 rfl rfl)
theorem dX0_loose_15 : decode cX0_loose 15 = .ok (.iconst 0, 1) := dk_3 (dk_at dksX0_loose_0 15 rfl rfl)
theorem dX0_loose_16 : decode cX0_loose 16 = .ok (.ireturn, 1) := dk_172 (dk_at dksX0_loose_0 16 rfl rfl)
abbrev cX0_outline : ByteArray := method_16_code
def yX0_outline : MethodName := ⟨RX0, "outline", "(LFoldLister;II[J)I"⟩
def dkwX0_outline_0 : List UInt8 := [45, 3, 42, 27, 28, 182, 0, 55, 133, 80, 167, 0, 7, 58, 4, 4, 172, 3, 172]
abbrev dktX0_outline_0 : List UInt8 := dkwX0_outline_0 ++ []
theorem dksX0_outline_0 : cX0_outline.data.toList.drop 0 = dktX0_outline_0 := by decide +kernel
theorem dX0_outline_0 : decode cX0_outline 0 = .ok (.aload_n 3, 1) := dk_45 (dk_at dksX0_outline_0 0 rfl rfl)
theorem dX0_outline_1 : decode cX0_outline 1 = .ok (.iconst 0, 1) := dk_3 (dk_at dksX0_outline_0 1 rfl rfl)
theorem dX0_outline_2 : decode cX0_outline 2 = .ok (.aload_n 0, 1) := dk_42 (dk_at dksX0_outline_0 2 rfl rfl)
theorem dX0_outline_3 : decode cX0_outline 3 = .ok (.iload_n 1, 1) := dk_27 (dk_at dksX0_outline_0 3 rfl rfl)
theorem dX0_outline_4 : decode cX0_outline 4 = .ok (.iload_n 2, 1) := dk_28 (dk_at dksX0_outline_0 4 rfl rfl)
theorem dX0_outline_5 : decode cX0_outline 5 = .ok (.invokevirtual 55, 3) := dk_182 0 55 (dk_at dksX0_outline_0 5 rfl rfl)
theorem dX0_outline_8 : decode cX0_outline 8 = .ok (.i2l, 1) := dk_133 (dk_at dksX0_outline_0 8 rfl rfl)
theorem dX0_outline_9 : decode cX0_outline 9 = .ok (.lastore, 1) := dk_80 (dk_at dksX0_outline_0 9 rfl rfl)
theorem dX0_outline_10 : decode cX0_outline 10 = .ok (.goto 7, 3) := dk_167 0 7 (dk_at dksX0_outline_0 10 rfl rfl)
theorem dX0_outline_13 : decode cX0_outline 13 = .ok (.astore 4, 2) := dk_58 4 (dk_at dksX0_outline_0 13 rfl rfl)
theorem dX0_outline_15 : decode cX0_outline 15 = .ok (.iconst 1, 1) := dk_4 (dk_at dksX0_outline_0 15 rfl rfl)
theorem dX0_outline_16 : decode cX0_outline 16 = .ok (.ireturn, 1) := dk_172 (dk_at dksX0_outline_0 16 rfl rfl)
theorem dX0_outline_17 : decode cX0_outline 17 = .ok (.iconst 0, 1) := dk_3 (dk_at dksX0_outline_0 17 rfl rfl)
theorem dX0_outline_18 : decode cX0_outline 18 = .ok (.ireturn, 1) := dk_172 (dk_at dksX0_outline_0 18 rfl rfl)
abbrev cX0_marker : ByteArray := method_17_code
def yX0_marker : MethodName := ⟨RX0, "marker", "(LFoldLister;I[J)I"⟩
def dkwX0_marker_0 : List UInt8 := [44, 3, 42, 27, 182, 0, 58, 133, 80, 167, 0, 6, 78, 4, 172, 3, 172]
abbrev dktX0_marker_0 : List UInt8 := dkwX0_marker_0 ++ []
theorem dksX0_marker_0 : cX0_marker.data.toList.drop 0 = dktX0_marker_0 := by decide +kernel
theorem dX0_marker_0 : decode cX0_marker 0 = .ok (.aload_n 2, 1) := dk_44 (dk_at dksX0_marker_0 0 rfl rfl)
theorem dX0_marker_1 : decode cX0_marker 1 = .ok (.iconst 0, 1) := dk_3 (dk_at dksX0_marker_0 1 rfl rfl)
theorem dX0_marker_2 : decode cX0_marker 2 = .ok (.aload_n 0, 1) := dk_42 (dk_at dksX0_marker_0 2 rfl rfl)
theorem dX0_marker_3 : decode cX0_marker 3 = .ok (.iload_n 1, 1) := dk_27 (dk_at dksX0_marker_0 3 rfl rfl)
theorem dX0_marker_4 : decode cX0_marker 4 = .ok (.invokevirtual 58, 3) := dk_182 0 58 (dk_at dksX0_marker_0 4 rfl rfl)
theorem dX0_marker_7 : decode cX0_marker 7 = .ok (.i2l, 1) := dk_133 (dk_at dksX0_marker_0 7 rfl rfl)
theorem dX0_marker_8 : decode cX0_marker 8 = .ok (.lastore, 1) := dk_80 (dk_at dksX0_marker_0 8 rfl rfl)
theorem dX0_marker_9 : decode cX0_marker 9 = .ok (.goto 6, 3) := dk_167 0 6 (dk_at dksX0_marker_0 9 rfl rfl)
theorem dX0_marker_12 : decode cX0_marker 12 = .ok (.astore_n 3, 1) := dk_78 (dk_at dksX0_marker_0 12 rfl rfl)
theorem dX0_marker_13 : decode cX0_marker 13 = .ok (.iconst 1, 1) := dk_4 (dk_at dksX0_marker_0 13 rfl rfl)
theorem dX0_marker_14 : decode cX0_marker 14 = .ok (.ireturn, 1) := dk_172 (dk_at dksX0_marker_0 14 rfl rfl)
theorem dX0_marker_15 : decode cX0_marker 15 = .ok (.iconst 0, 1) := dk_3 (dk_at dksX0_marker_0 15 rfl rfl)
theorem dX0_marker_16 : decode cX0_marker 16 = .ok (.ireturn, 1) := dk_172 (dk_at dksX0_marker_0 16 rfl rfl)
abbrev cX0_nextMarked : ByteArray := method_18_code
def yX0_nextMarked : MethodName := ⟨RX0, "nextMarked", "(LFoldLister;IZ[J)I"⟩
def dkwX0_nextMarked_0 : List UInt8 := [45, 3, 42, 27, 28, 182, 0, 61, 133, 80, 167, 0, 7, 58, 4, 4, 172, 3, 172]
abbrev dktX0_nextMarked_0 : List UInt8 := dkwX0_nextMarked_0 ++ []
theorem dksX0_nextMarked_0 : cX0_nextMarked.data.toList.drop 0 = dktX0_nextMarked_0 := by decide +kernel
theorem dX0_nextMarked_0 : decode cX0_nextMarked 0 = .ok (.aload_n 3, 1) := dk_45 (dk_at dksX0_nextMarked_0 0 rfl rfl)
theorem dX0_nextMarked_1 : decode cX0_nextMarked 1 = .ok (.iconst 0, 1) := dk_3 (dk_at dksX0_nextMarked_0 1 rfl rfl)
theorem dX0_nextMarked_2 : decode cX0_nextMarked 2 = .ok (.aload_n 0, 1) := dk_42 (dk_at dksX0_nextMarked_0 2 rfl rfl)
theorem dX0_nextMarked_3 : decode cX0_nextMarked 3 = .ok (.iload_n 1, 1) := dk_27 (dk_at dksX0_nextMarked_0 3 rfl rfl)
theorem dX0_nextMarked_4 : decode cX0_nextMarked 4 = .ok (.iload_n 2, 1) := dk_28 (dk_at dksX0_nextMarked_0 4 rfl rfl)
theorem dX0_nextMarked_5 : decode cX0_nextMarked 5 = .ok (.invokevirtual 61, 3) := dk_182 0 61 (dk_at dksX0_nextMarked_0 5 rfl rfl)
theorem dX0_nextMarked_8 : decode cX0_nextMarked 8 = .ok (.i2l, 1) := dk_133 (dk_at dksX0_nextMarked_0 8 rfl rfl)
theorem dX0_nextMarked_9 : decode cX0_nextMarked 9 = .ok (.lastore, 1) := dk_80 (dk_at dksX0_nextMarked_0 9 rfl rfl)
theorem dX0_nextMarked_10 : decode cX0_nextMarked 10 = .ok (.goto 7, 3) := dk_167 0 7 (dk_at dksX0_nextMarked_0 10 rfl rfl)
theorem dX0_nextMarked_13 : decode cX0_nextMarked 13 = .ok (.astore 4, 2) := dk_58 4 (dk_at dksX0_nextMarked_0 13 rfl rfl)
theorem dX0_nextMarked_15 : decode cX0_nextMarked 15 = .ok (.iconst 1, 1) := dk_4 (dk_at dksX0_nextMarked_0 15 rfl rfl)
theorem dX0_nextMarked_16 : decode cX0_nextMarked 16 = .ok (.ireturn, 1) := dk_172 (dk_at dksX0_nextMarked_0 16 rfl rfl)
theorem dX0_nextMarked_17 : decode cX0_nextMarked 17 = .ok (.iconst 0, 1) := dk_3 (dk_at dksX0_nextMarked_0 17 rfl rfl)
theorem dX0_nextMarked_18 : decode cX0_nextMarked 18 = .ok (.ireturn, 1) := dk_172 (dk_at dksX0_nextMarked_0 18 rfl rfl)
abbrev cX0_labelled : ByteArray := method_19_code
def yX0_labelled : MethodName := ⟨RX0, "labelled", "(LFoldLister;I[J)I"⟩
def dkwX0_labelled_0 : List UInt8 := [44, 3, 42, 27, 182, 0, 65, 133, 80, 167, 0, 6, 78, 4, 172, 3, 172]
abbrev dktX0_labelled_0 : List UInt8 := dkwX0_labelled_0 ++ []
theorem dksX0_labelled_0 : cX0_labelled.data.toList.drop 0 = dktX0_labelled_0 := by decide +kernel
theorem dX0_labelled_0 : decode cX0_labelled 0 = .ok (.aload_n 2, 1) := dk_44 (dk_at dksX0_labelled_0 0 rfl rfl)
theorem dX0_labelled_1 : decode cX0_labelled 1 = .ok (.iconst 0, 1) := dk_3 (dk_at dksX0_labelled_0 1 rfl rfl)
theorem dX0_labelled_2 : decode cX0_labelled 2 = .ok (.aload_n 0, 1) := dk_42 (dk_at dksX0_labelled_0 2 rfl rfl)
theorem dX0_labelled_3 : decode cX0_labelled 3 = .ok (.iload_n 1, 1) := dk_27 (dk_at dksX0_labelled_0 3 rfl rfl)
theorem dX0_labelled_4 : decode cX0_labelled 4 = .ok (.invokevirtual 65, 3) := dk_182 0 65 (dk_at dksX0_labelled_0 4 rfl rfl)
theorem dX0_labelled_7 : decode cX0_labelled 7 = .ok (.i2l, 1) := dk_133 (dk_at dksX0_labelled_0 7 rfl rfl)
theorem dX0_labelled_8 : decode cX0_labelled 8 = .ok (.lastore, 1) := dk_80 (dk_at dksX0_labelled_0 8 rfl rfl)
theorem dX0_labelled_9 : decode cX0_labelled 9 = .ok (.goto 6, 3) := dk_167 0 6 (dk_at dksX0_labelled_0 9 rfl rfl)
theorem dX0_labelled_12 : decode cX0_labelled 12 = .ok (.astore_n 3, 1) := dk_78 (dk_at dksX0_labelled_0 12 rfl rfl)
theorem dX0_labelled_13 : decode cX0_labelled 13 = .ok (.iconst 1, 1) := dk_4 (dk_at dksX0_labelled_0 13 rfl rfl)
theorem dX0_labelled_14 : decode cX0_labelled 14 = .ok (.ireturn, 1) := dk_172 (dk_at dksX0_labelled_0 14 rfl rfl)
theorem dX0_labelled_15 : decode cX0_labelled 15 = .ok (.iconst 0, 1) := dk_3 (dk_at dksX0_labelled_0 15 rfl rfl)
theorem dX0_labelled_16 : decode cX0_labelled 16 = .ok (.ireturn, 1) := dk_172 (dk_at dksX0_labelled_0 16 rfl rfl)
abbrev cX0_labelLength : ByteArray := method_20_code
def yX0_labelLength : MethodName := ⟨RX0, "labelLength", "(LFoldLister;I[J)I"⟩
def dkwX0_labelLength_0 : List UInt8 := [44, 3, 42, 27, 182, 0, 68, 133, 80, 167, 0, 6, 78, 4, 172, 3, 172]
abbrev dktX0_labelLength_0 : List UInt8 := dkwX0_labelLength_0 ++ []
theorem dksX0_labelLength_0 : cX0_labelLength.data.toList.drop 0 = dktX0_labelLength_0 := by decide +kernel
theorem dX0_labelLength_0 : decode cX0_labelLength 0 = .ok (.aload_n 2, 1) := dk_44 (dk_at dksX0_labelLength_0 0 rfl rfl)
theorem dX0_labelLength_1 : decode cX0_labelLength 1 = .ok (.iconst 0, 1) := dk_3 (dk_at dksX0_labelLength_0 1 rfl rfl)
theorem dX0_labelLength_2 : decode cX0_labelLength 2 = .ok (.aload_n 0, 1) := dk_42 (dk_at dksX0_labelLength_0 2 rfl rfl)
theorem dX0_labelLength_3 : decode cX0_labelLength 3 = .ok (.iload_n 1, 1) := dk_27 (dk_at dksX0_labelLength_0 3 rfl rfl)
theorem dX0_labelLength_4 : decode cX0_labelLength 4 = .ok (.invokevirtual 68, 3) := dk_182 0 68 (dk_at dksX0_labelLength_0 4 rfl rfl)
theorem dX0_labelLength_7 : decode cX0_labelLength 7 = .ok (.i2l, 1) := dk_133 (dk_at dksX0_labelLength_0 7 rfl rfl)
theorem dX0_labelLength_8 : decode cX0_labelLength 8 = .ok (.lastore, 1) := dk_80 (dk_at dksX0_labelLength_0 8 rfl rfl)
theorem dX0_labelLength_9 : decode cX0_labelLength 9 = .ok (.goto 6, 3) := dk_167 0 6 (dk_at dksX0_labelLength_0 9 rfl rfl)
theorem dX0_labelLength_12 : decode cX0_labelLength 12 = .ok (.astore_n 3, 1) := dk_78 (dk_at dksX0_labelLength_0 12 rfl rfl)
theorem dX0_labelLength_13 : decode cX0_labelLength 13 = .ok (.iconst 1, 1) := dk_4 (dk_at dksX0_labelLength_0 13 rfl rfl)
theorem dX0_labelLength_14 : decode cX0_labelLength 14 = .ok (.ireturn, 1) := dk_172 (dk_at dksX0_labelLength_0 14 rfl rfl)
theorem dX0_labelLength_15 : decode cX0_labelLength 15 = .ok (.iconst 0, 1) := dk_3 (dk_at dksX0_labelLength_0 15 rfl rfl)
theorem dX0_labelLength_16 : decode cX0_labelLength 16 = .ok (.ireturn, 1) := dk_172 (dk_at dksX0_labelLength_0 16 rfl rfl)
abbrev cX0_target : ByteArray := method_21_code
def yX0_target : MethodName := ⟨RX0, "target", "(LFoldLister;I[J)I"⟩
def dkwX0_target_0 : List UInt8 := [44, 3, 42, 27, 182, 0, 71, 133, 80, 167, 0, 6, 78, 4, 172, 3, 172]
abbrev dktX0_target_0 : List UInt8 := dkwX0_target_0 ++ []
theorem dksX0_target_0 : cX0_target.data.toList.drop 0 = dktX0_target_0 := by decide +kernel
theorem dX0_target_0 : decode cX0_target 0 = .ok (.aload_n 2, 1) := dk_44 (dk_at dksX0_target_0 0 rfl rfl)
theorem dX0_target_1 : decode cX0_target 1 = .ok (.iconst 0, 1) := dk_3 (dk_at dksX0_target_0 1 rfl rfl)
theorem dX0_target_2 : decode cX0_target 2 = .ok (.aload_n 0, 1) := dk_42 (dk_at dksX0_target_0 2 rfl rfl)
theorem dX0_target_3 : decode cX0_target 3 = .ok (.iload_n 1, 1) := dk_27 (dk_at dksX0_target_0 3 rfl rfl)
theorem dX0_target_4 : decode cX0_target 4 = .ok (.invokevirtual 71, 3) := dk_182 0 71 (dk_at dksX0_target_0 4 rfl rfl)
theorem dX0_target_7 : decode cX0_target 7 = .ok (.i2l, 1) := dk_133 (dk_at dksX0_target_0 7 rfl rfl)
theorem dX0_target_8 : decode cX0_target 8 = .ok (.lastore, 1) := dk_80 (dk_at dksX0_target_0 8 rfl rfl)
theorem dX0_target_9 : decode cX0_target 9 = .ok (.goto 6, 3) := dk_167 0 6 (dk_at dksX0_target_0 9 rfl rfl)
theorem dX0_target_12 : decode cX0_target 12 = .ok (.astore_n 3, 1) := dk_78 (dk_at dksX0_target_0 12 rfl rfl)
theorem dX0_target_13 : decode cX0_target 13 = .ok (.iconst 1, 1) := dk_4 (dk_at dksX0_target_0 13 rfl rfl)
theorem dX0_target_14 : decode cX0_target 14 = .ok (.ireturn, 1) := dk_172 (dk_at dksX0_target_0 14 rfl rfl)
theorem dX0_target_15 : decode cX0_target 15 = .ok (.iconst 0, 1) := dk_3 (dk_at dksX0_target_0 15 rfl rfl)
theorem dX0_target_16 : decode cX0_target 16 = .ok (.ireturn, 1) := dk_172 (dk_at dksX0_target_0 16 rfl rfl)
abbrev cX0_referrers : ByteArray := method_22_code
def yX0_referrers : MethodName := ⟨RX0, "referrers", "(LFoldLister;I[J)I"⟩
def dkwX0_referrers_0 : List UInt8 := [44, 3, 42, 27, 182, 0, 74, 133, 80, 167, 0, 6, 78, 4, 172, 3, 172]
abbrev dktX0_referrers_0 : List UInt8 := dkwX0_referrers_0 ++ []
theorem dksX0_referrers_0 : cX0_referrers.data.toList.drop 0 = dktX0_referrers_0 := by decide +kernel
theorem dX0_referrers_0 : decode cX0_referrers 0 = .ok (.aload_n 2, 1) := dk_44 (dk_at dksX0_referrers_0 0 rfl rfl)
theorem dX0_referrers_1 : decode cX0_referrers 1 = .ok (.iconst 0, 1) := dk_3 (dk_at dksX0_referrers_0 1 rfl rfl)
theorem dX0_referrers_2 : decode cX0_referrers 2 = .ok (.aload_n 0, 1) := dk_42 (dk_at dksX0_referrers_0 2 rfl rfl)
theorem dX0_referrers_3 : decode cX0_referrers 3 = .ok (.iload_n 1, 1) := dk_27 (dk_at dksX0_referrers_0 3 rfl rfl)
theorem dX0_referrers_4 : decode cX0_referrers 4 = .ok (.invokevirtual 74, 3) := dk_182 0 74 (dk_at dksX0_referrers_0 4 rfl rfl)
theorem dX0_referrers_7 : decode cX0_referrers 7 = .ok (.i2l, 1) := dk_133 (dk_at dksX0_referrers_0 7 rfl rfl)
theorem dX0_referrers_8 : decode cX0_referrers 8 = .ok (.lastore, 1) := dk_80 (dk_at dksX0_referrers_0 8 rfl rfl)
theorem dX0_referrers_9 : decode cX0_referrers 9 = .ok (.goto 6, 3) := dk_167 0 6 (dk_at dksX0_referrers_0 9 rfl rfl)
theorem dX0_referrers_12 : decode cX0_referrers 12 = .ok (.astore_n 3, 1) := dk_78 (dk_at dksX0_referrers_0 12 rfl rfl)
theorem dX0_referrers_13 : decode cX0_referrers 13 = .ok (.iconst 1, 1) := dk_4 (dk_at dksX0_referrers_0 13 rfl rfl)
theorem dX0_referrers_14 : decode cX0_referrers 14 = .ok (.ireturn, 1) := dk_172 (dk_at dksX0_referrers_0 14 rfl rfl)
theorem dX0_referrers_15 : decode cX0_referrers 15 = .ok (.iconst 0, 1) := dk_3 (dk_at dksX0_referrers_0 15 rfl rfl)
theorem dX0_referrers_16 : decode cX0_referrers 16 = .ok (.ireturn, 1) := dk_172 (dk_at dksX0_referrers_0 16 rfl rfl)
abbrev cX0_referrer : ByteArray := method_23_code
def yX0_referrer : MethodName := ⟨RX0, "referrer", "(LFoldLister;II[J)I"⟩
def dkwX0_referrer_0 : List UInt8 := [45, 3, 42, 27, 28, 182, 0, 77, 133, 80, 167, 0, 7, 58, 4, 4, 172, 3, 172]
abbrev dktX0_referrer_0 : List UInt8 := dkwX0_referrer_0 ++ []
theorem dksX0_referrer_0 : cX0_referrer.data.toList.drop 0 = dktX0_referrer_0 := by decide +kernel
theorem dX0_referrer_0 : decode cX0_referrer 0 = .ok (.aload_n 3, 1) := dk_45 (dk_at dksX0_referrer_0 0 rfl rfl)
theorem dX0_referrer_1 : decode cX0_referrer 1 = .ok (.iconst 0, 1) := dk_3 (dk_at dksX0_referrer_0 1 rfl rfl)
theorem dX0_referrer_2 : decode cX0_referrer 2 = .ok (.aload_n 0, 1) := dk_42 (dk_at dksX0_referrer_0 2 rfl rfl)
theorem dX0_referrer_3 : decode cX0_referrer 3 = .ok (.iload_n 1, 1) := dk_27 (dk_at dksX0_referrer_0 3 rfl rfl)
theorem dX0_referrer_4 : decode cX0_referrer 4 = .ok (.iload_n 2, 1) := dk_28 (dk_at dksX0_referrer_0 4 rfl rfl)
theorem dX0_referrer_5 : decode cX0_referrer 5 = .ok (.invokevirtual 77, 3) := dk_182 0 77 (dk_at dksX0_referrer_0 5 rfl rfl)
theorem dX0_referrer_8 : decode cX0_referrer 8 = .ok (.i2l, 1) := dk_133 (dk_at dksX0_referrer_0 8 rfl rfl)
theorem dX0_referrer_9 : decode cX0_referrer 9 = .ok (.lastore, 1) := dk_80 (dk_at dksX0_referrer_0 9 rfl rfl)
theorem dX0_referrer_10 : decode cX0_referrer 10 = .ok (.goto 7, 3) := dk_167 0 7 (dk_at dksX0_referrer_0 10 rfl rfl)
theorem dX0_referrer_13 : decode cX0_referrer 13 = .ok (.astore 4, 2) := dk_58 4 (dk_at dksX0_referrer_0 13 rfl rfl)
theorem dX0_referrer_15 : decode cX0_referrer 15 = .ok (.iconst 1, 1) := dk_4 (dk_at dksX0_referrer_0 15 rfl rfl)
theorem dX0_referrer_16 : decode cX0_referrer 16 = .ok (.ireturn, 1) := dk_172 (dk_at dksX0_referrer_0 16 rfl rfl)
theorem dX0_referrer_17 : decode cX0_referrer 17 = .ok (.iconst 0, 1) := dk_3 (dk_at dksX0_referrer_0 17 rfl rfl)
theorem dX0_referrer_18 : decode cX0_referrer 18 = .ok (.ireturn, 1) := dk_172 (dk_at dksX0_referrer_0 18 rfl rfl)
abbrev cX0_jumped : ByteArray := method_24_code
def yX0_jumped : MethodName := ⟨RX0, "jumped", "(LFoldLister;ZI[J)I"⟩
def dkwX0_jumped_0 : List UInt8 := [45, 3, 42, 27, 28, 182, 0, 80, 133, 80, 167, 0, 7, 58, 4, 4, 172, 3, 172]
abbrev dktX0_jumped_0 : List UInt8 := dkwX0_jumped_0 ++ []
theorem dksX0_jumped_0 : cX0_jumped.data.toList.drop 0 = dktX0_jumped_0 := by decide +kernel
theorem dX0_jumped_0 : decode cX0_jumped 0 = .ok (.aload_n 3, 1) := dk_45 (dk_at dksX0_jumped_0 0 rfl rfl)
theorem dX0_jumped_1 : decode cX0_jumped 1 = .ok (.iconst 0, 1) := dk_3 (dk_at dksX0_jumped_0 1 rfl rfl)
theorem dX0_jumped_2 : decode cX0_jumped 2 = .ok (.aload_n 0, 1) := dk_42 (dk_at dksX0_jumped_0 2 rfl rfl)
theorem dX0_jumped_3 : decode cX0_jumped 3 = .ok (.iload_n 1, 1) := dk_27 (dk_at dksX0_jumped_0 3 rfl rfl)
theorem dX0_jumped_4 : decode cX0_jumped 4 = .ok (.iload_n 2, 1) := dk_28 (dk_at dksX0_jumped_0 4 rfl rfl)
theorem dX0_jumped_5 : decode cX0_jumped 5 = .ok (.invokevirtual 80, 3) := dk_182 0 80 (dk_at dksX0_jumped_0 5 rfl rfl)
theorem dX0_jumped_8 : decode cX0_jumped 8 = .ok (.i2l, 1) := dk_133 (dk_at dksX0_jumped_0 8 rfl rfl)
theorem dX0_jumped_9 : decode cX0_jumped 9 = .ok (.lastore, 1) := dk_80 (dk_at dksX0_jumped_0 9 rfl rfl)
theorem dX0_jumped_10 : decode cX0_jumped 10 = .ok (.goto 7, 3) := dk_167 0 7 (dk_at dksX0_jumped_0 10 rfl rfl)
theorem dX0_jumped_13 : decode cX0_jumped 13 = .ok (.astore 4, 2) := dk_58 4 (dk_at dksX0_jumped_0 13 rfl rfl)
theorem dX0_jumped_15 : decode cX0_jumped 15 = .ok (.iconst 1, 1) := dk_4 (dk_at dksX0_jumped_0 15 rfl rfl)
theorem dX0_jumped_16 : decode cX0_jumped 16 = .ok (.ireturn, 1) := dk_172 (dk_at dksX0_jumped_0 16 rfl rfl)
theorem dX0_jumped_17 : decode cX0_jumped 17 = .ok (.iconst 0, 1) := dk_3 (dk_at dksX0_jumped_0 17 rfl rfl)
theorem dX0_jumped_18 : decode cX0_jumped 18 = .ok (.ireturn, 1) := dk_172 (dk_at dksX0_jumped_0 18 rfl rfl)
abbrev cX0_shownIf : ByteArray := method_25_code
def yX0_shownIf : MethodName := ⟨RX0, "shownIf", "(LFoldLister;IZ[J)I"⟩
def dkwX0_shownIf_0 : List UInt8 := [45, 3, 42, 27, 28, 182, 0, 84, 133, 80, 167, 0, 7, 58, 4, 4, 172, 3, 172]
abbrev dktX0_shownIf_0 : List UInt8 := dkwX0_shownIf_0 ++ []
theorem dksX0_shownIf_0 : cX0_shownIf.data.toList.drop 0 = dktX0_shownIf_0 := by decide +kernel
theorem dX0_shownIf_0 : decode cX0_shownIf 0 = .ok (.aload_n 3, 1) := dk_45 (dk_at dksX0_shownIf_0 0 rfl rfl)
theorem dX0_shownIf_1 : decode cX0_shownIf 1 = .ok (.iconst 0, 1) := dk_3 (dk_at dksX0_shownIf_0 1 rfl rfl)
theorem dX0_shownIf_2 : decode cX0_shownIf 2 = .ok (.aload_n 0, 1) := dk_42 (dk_at dksX0_shownIf_0 2 rfl rfl)
theorem dX0_shownIf_3 : decode cX0_shownIf 3 = .ok (.iload_n 1, 1) := dk_27 (dk_at dksX0_shownIf_0 3 rfl rfl)
theorem dX0_shownIf_4 : decode cX0_shownIf 4 = .ok (.iload_n 2, 1) := dk_28 (dk_at dksX0_shownIf_0 4 rfl rfl)
theorem dX0_shownIf_5 : decode cX0_shownIf 5 = .ok (.invokevirtual 84, 3) := dk_182 0 84 (dk_at dksX0_shownIf_0 5 rfl rfl)
theorem dX0_shownIf_8 : decode cX0_shownIf 8 = .ok (.i2l, 1) := dk_133 (dk_at dksX0_shownIf_0 8 rfl rfl)
theorem dX0_shownIf_9 : decode cX0_shownIf 9 = .ok (.lastore, 1) := dk_80 (dk_at dksX0_shownIf_0 9 rfl rfl)
theorem dX0_shownIf_10 : decode cX0_shownIf 10 = .ok (.goto 7, 3) := dk_167 0 7 (dk_at dksX0_shownIf_0 10 rfl rfl)
theorem dX0_shownIf_13 : decode cX0_shownIf 13 = .ok (.astore 4, 2) := dk_58 4 (dk_at dksX0_shownIf_0 13 rfl rfl)
theorem dX0_shownIf_15 : decode cX0_shownIf 15 = .ok (.iconst 1, 1) := dk_4 (dk_at dksX0_shownIf_0 15 rfl rfl)
theorem dX0_shownIf_16 : decode cX0_shownIf 16 = .ok (.ireturn, 1) := dk_172 (dk_at dksX0_shownIf_0 16 rfl rfl)
theorem dX0_shownIf_17 : decode cX0_shownIf 17 = .ok (.iconst 0, 1) := dk_3 (dk_at dksX0_shownIf_0 17 rfl rfl)
theorem dX0_shownIf_18 : decode cX0_shownIf 18 = .ok (.ireturn, 1) := dk_172 (dk_at dksX0_shownIf_0 18 rfl rfl)
abbrev cX0_opensFor : ByteArray := method_26_code
def yX0_opensFor : MethodName := ⟨RX0, "opensFor", "(LFoldLister;I[J)I"⟩
def dkwX0_opensFor_0 : List UInt8 := [44, 3, 42, 27, 182, 0, 87, 133, 80, 167, 0, 6, 78, 4, 172, 3, 172]
abbrev dktX0_opensFor_0 : List UInt8 := dkwX0_opensFor_0 ++ []
theorem dksX0_opensFor_0 : cX0_opensFor.data.toList.drop 0 = dktX0_opensFor_0 := by decide +kernel
theorem dX0_opensFor_0 : decode cX0_opensFor 0 = .ok (.aload_n 2, 1) := dk_44 (dk_at dksX0_opensFor_0 0 rfl rfl)
theorem dX0_opensFor_1 : decode cX0_opensFor 1 = .ok (.iconst 0, 1) := dk_3 (dk_at dksX0_opensFor_0 1 rfl rfl)
theorem dX0_opensFor_2 : decode cX0_opensFor 2 = .ok (.aload_n 0, 1) := dk_42 (dk_at dksX0_opensFor_0 2 rfl rfl)
theorem dX0_opensFor_3 : decode cX0_opensFor 3 = .ok (.iload_n 1, 1) := dk_27 (dk_at dksX0_opensFor_0 3 rfl rfl)
theorem dX0_opensFor_4 : decode cX0_opensFor 4 = .ok (.invokevirtual 87, 3) := dk_182 0 87 (dk_at dksX0_opensFor_0 4 rfl rfl)
theorem dX0_opensFor_7 : decode cX0_opensFor 7 = .ok (.i2l, 1) := dk_133 (dk_at dksX0_opensFor_0 7 rfl rfl)
theorem dX0_opensFor_8 : decode cX0_opensFor 8 = .ok (.lastore, 1) := dk_80 (dk_at dksX0_opensFor_0 8 rfl rfl)
theorem dX0_opensFor_9 : decode cX0_opensFor 9 = .ok (.goto 6, 3) := dk_167 0 6 (dk_at dksX0_opensFor_0 9 rfl rfl)
theorem dX0_opensFor_12 : decode cX0_opensFor 12 = .ok (.astore_n 3, 1) := dk_78 (dk_at dksX0_opensFor_0 12 rfl rfl)
theorem dX0_opensFor_13 : decode cX0_opensFor 13 = .ok (.iconst 1, 1) := dk_4 (dk_at dksX0_opensFor_0 13 rfl rfl)
theorem dX0_opensFor_14 : decode cX0_opensFor 14 = .ok (.ireturn, 1) := dk_172 (dk_at dksX0_opensFor_0 14 rfl rfl)
theorem dX0_opensFor_15 : decode cX0_opensFor 15 = .ok (.iconst 0, 1) := dk_3 (dk_at dksX0_opensFor_0 15 rfl rfl)
theorem dX0_opensFor_16 : decode cX0_opensFor 16 = .ok (.ireturn, 1) := dk_172 (dk_at dksX0_opensFor_0 16 rfl rfl)
abbrev cX0_rowIf : ByteArray := method_27_code
def yX0_rowIf : MethodName := ⟨RX0, "rowIf", "(LFoldLister;I[J)I"⟩
def dkwX0_rowIf_0 : List UInt8 := [44, 3, 42, 27, 182, 0, 90, 133, 80, 167, 0, 6, 78, 4, 172, 3, 172]
abbrev dktX0_rowIf_0 : List UInt8 := dkwX0_rowIf_0 ++ []
theorem dksX0_rowIf_0 : cX0_rowIf.data.toList.drop 0 = dktX0_rowIf_0 := by decide +kernel
theorem dX0_rowIf_0 : decode cX0_rowIf 0 = .ok (.aload_n 2, 1) := dk_44 (dk_at dksX0_rowIf_0 0 rfl rfl)
theorem dX0_rowIf_1 : decode cX0_rowIf 1 = .ok (.iconst 0, 1) := dk_3 (dk_at dksX0_rowIf_0 1 rfl rfl)
theorem dX0_rowIf_2 : decode cX0_rowIf 2 = .ok (.aload_n 0, 1) := dk_42 (dk_at dksX0_rowIf_0 2 rfl rfl)
theorem dX0_rowIf_3 : decode cX0_rowIf 3 = .ok (.iload_n 1, 1) := dk_27 (dk_at dksX0_rowIf_0 3 rfl rfl)
theorem dX0_rowIf_4 : decode cX0_rowIf 4 = .ok (.invokevirtual 90, 3) := dk_182 0 90 (dk_at dksX0_rowIf_0 4 rfl rfl)
theorem dX0_rowIf_7 : decode cX0_rowIf 7 = .ok (.i2l, 1) := dk_133 (dk_at dksX0_rowIf_0 7 rfl rfl)
theorem dX0_rowIf_8 : decode cX0_rowIf 8 = .ok (.lastore, 1) := dk_80 (dk_at dksX0_rowIf_0 8 rfl rfl)
theorem dX0_rowIf_9 : decode cX0_rowIf 9 = .ok (.goto 6, 3) := dk_167 0 6 (dk_at dksX0_rowIf_0 9 rfl rfl)
theorem dX0_rowIf_12 : decode cX0_rowIf 12 = .ok (.astore_n 3, 1) := dk_78 (dk_at dksX0_rowIf_0 12 rfl rfl)
theorem dX0_rowIf_13 : decode cX0_rowIf 13 = .ok (.iconst 1, 1) := dk_4 (dk_at dksX0_rowIf_0 13 rfl rfl)
theorem dX0_rowIf_14 : decode cX0_rowIf 14 = .ok (.ireturn, 1) := dk_172 (dk_at dksX0_rowIf_0 14 rfl rfl)
theorem dX0_rowIf_15 : decode cX0_rowIf 15 = .ok (.iconst 0, 1) := dk_3 (dk_at dksX0_rowIf_0 15 rfl rfl)
theorem dX0_rowIf_16 : decode cX0_rowIf 16 = .ok (.ireturn, 1) := dk_172 (dk_at dksX0_rowIf_0 16 rfl rfl)
abbrev cX0_steps : ByteArray := method_28_code
def yX0_steps : MethodName := ⟨RX0, "steps", "(LFoldLister;II[J)I"⟩
def dkwX0_steps_0 : List UInt8 := [45, 3, 42, 27, 28, 182, 0, 93, 133, 80, 167, 0, 7, 58, 4, 4, 172, 3, 172]
abbrev dktX0_steps_0 : List UInt8 := dkwX0_steps_0 ++ []
theorem dksX0_steps_0 : cX0_steps.data.toList.drop 0 = dktX0_steps_0 := by decide +kernel
theorem dX0_steps_0 : decode cX0_steps 0 = .ok (.aload_n 3, 1) := dk_45 (dk_at dksX0_steps_0 0 rfl rfl)
theorem dX0_steps_1 : decode cX0_steps 1 = .ok (.iconst 0, 1) := dk_3 (dk_at dksX0_steps_0 1 rfl rfl)
theorem dX0_steps_2 : decode cX0_steps 2 = .ok (.aload_n 0, 1) := dk_42 (dk_at dksX0_steps_0 2 rfl rfl)
theorem dX0_steps_3 : decode cX0_steps 3 = .ok (.iload_n 1, 1) := dk_27 (dk_at dksX0_steps_0 3 rfl rfl)
theorem dX0_steps_4 : decode cX0_steps 4 = .ok (.iload_n 2, 1) := dk_28 (dk_at dksX0_steps_0 4 rfl rfl)
theorem dX0_steps_5 : decode cX0_steps 5 = .ok (.invokevirtual 93, 3) := dk_182 0 93 (dk_at dksX0_steps_0 5 rfl rfl)
theorem dX0_steps_8 : decode cX0_steps 8 = .ok (.i2l, 1) := dk_133 (dk_at dksX0_steps_0 8 rfl rfl)
theorem dX0_steps_9 : decode cX0_steps 9 = .ok (.lastore, 1) := dk_80 (dk_at dksX0_steps_0 9 rfl rfl)
theorem dX0_steps_10 : decode cX0_steps 10 = .ok (.goto 7, 3) := dk_167 0 7 (dk_at dksX0_steps_0 10 rfl rfl)
theorem dX0_steps_13 : decode cX0_steps 13 = .ok (.astore 4, 2) := dk_58 4 (dk_at dksX0_steps_0 13 rfl rfl)
theorem dX0_steps_15 : decode cX0_steps 15 = .ok (.iconst 1, 1) := dk_4 (dk_at dksX0_steps_0 15 rfl rfl)
theorem dX0_steps_16 : decode cX0_steps 16 = .ok (.ireturn, 1) := dk_172 (dk_at dksX0_steps_0 16 rfl rfl)
theorem dX0_steps_17 : decode cX0_steps 17 = .ok (.iconst 0, 1) := dk_3 (dk_at dksX0_steps_0 17 rfl rfl)
theorem dX0_steps_18 : decode cX0_steps 18 = .ok (.ireturn, 1) := dk_172 (dk_at dksX0_steps_0 18 rfl rfl)
abbrev cX0_writeLine : ByteArray := method_29_code
def yX0_writeLine : MethodName := ⟨RX0, "writeLine", "(LFoldLister;I[J)I"⟩
def dkwX0_writeLine_0 : List UInt8 := [44, 3, 42, 27, 182, 0, 96, 133, 80, 167, 0, 6, 78, 4, 172, 3, 172]
abbrev dktX0_writeLine_0 : List UInt8 := dkwX0_writeLine_0 ++ []
theorem dksX0_writeLine_0 : cX0_writeLine.data.toList.drop 0 = dktX0_writeLine_0 := by decide +kernel
theorem dX0_writeLine_0 : decode cX0_writeLine 0 = .ok (.aload_n 2, 1) := dk_44 (dk_at dksX0_writeLine_0 0 rfl rfl)
theorem dX0_writeLine_1 : decode cX0_writeLine 1 = .ok (.iconst 0, 1) := dk_3 (dk_at dksX0_writeLine_0 1 rfl rfl)
theorem dX0_writeLine_2 : decode cX0_writeLine 2 = .ok (.aload_n 0, 1) := dk_42 (dk_at dksX0_writeLine_0 2 rfl rfl)
theorem dX0_writeLine_3 : decode cX0_writeLine 3 = .ok (.iload_n 1, 1) := dk_27 (dk_at dksX0_writeLine_0 3 rfl rfl)
theorem dX0_writeLine_4 : decode cX0_writeLine 4 = .ok (.invokevirtual 96, 3) := dk_182 0 96 (dk_at dksX0_writeLine_0 4 rfl rfl)
theorem dX0_writeLine_7 : decode cX0_writeLine 7 = .ok (.i2l, 1) := dk_133 (dk_at dksX0_writeLine_0 7 rfl rfl)
theorem dX0_writeLine_8 : decode cX0_writeLine 8 = .ok (.lastore, 1) := dk_80 (dk_at dksX0_writeLine_0 8 rfl rfl)
theorem dX0_writeLine_9 : decode cX0_writeLine 9 = .ok (.goto 6, 3) := dk_167 0 6 (dk_at dksX0_writeLine_0 9 rfl rfl)
theorem dX0_writeLine_12 : decode cX0_writeLine 12 = .ok (.astore_n 3, 1) := dk_78 (dk_at dksX0_writeLine_0 12 rfl rfl)
theorem dX0_writeLine_13 : decode cX0_writeLine 13 = .ok (.iconst 1, 1) := dk_4 (dk_at dksX0_writeLine_0 13 rfl rfl)
theorem dX0_writeLine_14 : decode cX0_writeLine 14 = .ok (.ireturn, 1) := dk_172 (dk_at dksX0_writeLine_0 14 rfl rfl)
theorem dX0_writeLine_15 : decode cX0_writeLine 15 = .ok (.iconst 0, 1) := dk_3 (dk_at dksX0_writeLine_0 15 rfl rfl)
theorem dX0_writeLine_16 : decode cX0_writeLine 16 = .ok (.ireturn, 1) := dk_172 (dk_at dksX0_writeLine_0 16 rfl rfl)
abbrev cX0_writeRows : ByteArray := method_30_code
def yX0_writeRows : MethodName := ⟨RX0, "writeRows", "(LFoldLister;II[J)I"⟩
def dkwX0_writeRows_0 : List UInt8 := [45, 3, 42, 27, 28, 182, 0, 99, 133, 80, 167, 0, 11, 58, 4, 4, 172, 58, 4, 5, 172, 3, 172]
abbrev dktX0_writeRows_0 : List UInt8 := dkwX0_writeRows_0 ++ []
theorem dksX0_writeRows_0 : cX0_writeRows.data.toList.drop 0 = dktX0_writeRows_0 := by decide +kernel
theorem dX0_writeRows_0 : decode cX0_writeRows 0 = .ok (.aload_n 3, 1) := dk_45 (dk_at dksX0_writeRows_0 0 rfl rfl)
theorem dX0_writeRows_1 : decode cX0_writeRows 1 = .ok (.iconst 0, 1) := dk_3 (dk_at dksX0_writeRows_0 1 rfl rfl)
theorem dX0_writeRows_2 : decode cX0_writeRows 2 = .ok (.aload_n 0, 1) := dk_42 (dk_at dksX0_writeRows_0 2 rfl rfl)
theorem dX0_writeRows_3 : decode cX0_writeRows 3 = .ok (.iload_n 1, 1) := dk_27 (dk_at dksX0_writeRows_0 3 rfl rfl)
theorem dX0_writeRows_4 : decode cX0_writeRows 4 = .ok (.iload_n 2, 1) := dk_28 (dk_at dksX0_writeRows_0 4 rfl rfl)
theorem dX0_writeRows_5 : decode cX0_writeRows 5 = .ok (.invokevirtual 99, 3) := dk_182 0 99 (dk_at dksX0_writeRows_0 5 rfl rfl)
theorem dX0_writeRows_8 : decode cX0_writeRows 8 = .ok (.i2l, 1) := dk_133 (dk_at dksX0_writeRows_0 8 rfl rfl)
theorem dX0_writeRows_9 : decode cX0_writeRows 9 = .ok (.lastore, 1) := dk_80 (dk_at dksX0_writeRows_0 9 rfl rfl)
theorem dX0_writeRows_10 : decode cX0_writeRows 10 = .ok (.goto 11, 3) := dk_167 0 11 (dk_at dksX0_writeRows_0 10 rfl rfl)
theorem dX0_writeRows_13 : decode cX0_writeRows 13 = .ok (.astore 4, 2) := dk_58 4 (dk_at dksX0_writeRows_0 13 rfl rfl)
theorem dX0_writeRows_15 : decode cX0_writeRows 15 = .ok (.iconst 1, 1) := dk_4 (dk_at dksX0_writeRows_0 15 rfl rfl)
theorem dX0_writeRows_16 : decode cX0_writeRows 16 = .ok (.ireturn, 1) := dk_172 (dk_at dksX0_writeRows_0 16 rfl rfl)
theorem dX0_writeRows_17 : decode cX0_writeRows 17 = .ok (.astore 4, 2) := dk_58 4 (dk_at dksX0_writeRows_0 17 rfl rfl)
theorem dX0_writeRows_19 : decode cX0_writeRows 19 = .ok (.iconst 2, 1) := dk_5 (dk_at dksX0_writeRows_0 19 rfl rfl)
theorem dX0_writeRows_20 : decode cX0_writeRows 20 = .ok (.ireturn, 1) := dk_172 (dk_at dksX0_writeRows_0 20 rfl rfl)
theorem dX0_writeRows_21 : decode cX0_writeRows 21 = .ok (.iconst 0, 1) := dk_3 (dk_at dksX0_writeRows_0 21 rfl rfl)
theorem dX0_writeRows_22 : decode cX0_writeRows 22 = .ok (.ireturn, 1) := dk_172 (dk_at dksX0_writeRows_0 22 rfl rfl)
abbrev cX0_textByte : ByteArray := method_31_code
def yX0_textByte : MethodName := ⟨RX0, "textByte", "(LFoldLister;I[J)I"⟩
def dkwX0_textByte_0 : List UInt8 := [44, 3, 42, 27, 182, 0, 102, 133, 80, 167, 0, 6, 78, 4, 172, 3, 172]
abbrev dktX0_textByte_0 : List UInt8 := dkwX0_textByte_0 ++ []
theorem dksX0_textByte_0 : cX0_textByte.data.toList.drop 0 = dktX0_textByte_0 := by decide +kernel
theorem dX0_textByte_0 : decode cX0_textByte 0 = .ok (.aload_n 2, 1) := dk_44 (dk_at dksX0_textByte_0 0 rfl rfl)
theorem dX0_textByte_1 : decode cX0_textByte 1 = .ok (.iconst 0, 1) := dk_3 (dk_at dksX0_textByte_0 1 rfl rfl)
theorem dX0_textByte_2 : decode cX0_textByte 2 = .ok (.aload_n 0, 1) := dk_42 (dk_at dksX0_textByte_0 2 rfl rfl)
theorem dX0_textByte_3 : decode cX0_textByte 3 = .ok (.iload_n 1, 1) := dk_27 (dk_at dksX0_textByte_0 3 rfl rfl)
theorem dX0_textByte_4 : decode cX0_textByte 4 = .ok (.invokevirtual 102, 3) := dk_182 0 102 (dk_at dksX0_textByte_0 4 rfl rfl)
theorem dX0_textByte_7 : decode cX0_textByte 7 = .ok (.i2l, 1) := dk_133 (dk_at dksX0_textByte_0 7 rfl rfl)
theorem dX0_textByte_8 : decode cX0_textByte 8 = .ok (.lastore, 1) := dk_80 (dk_at dksX0_textByte_0 8 rfl rfl)
theorem dX0_textByte_9 : decode cX0_textByte 9 = .ok (.goto 6, 3) := dk_167 0 6 (dk_at dksX0_textByte_0 9 rfl rfl)
theorem dX0_textByte_12 : decode cX0_textByte 12 = .ok (.astore_n 3, 1) := dk_78 (dk_at dksX0_textByte_0 12 rfl rfl)
theorem dX0_textByte_13 : decode cX0_textByte 13 = .ok (.iconst 1, 1) := dk_4 (dk_at dksX0_textByte_0 13 rfl rfl)
theorem dX0_textByte_14 : decode cX0_textByte 14 = .ok (.ireturn, 1) := dk_172 (dk_at dksX0_textByte_0 14 rfl rfl)
theorem dX0_textByte_15 : decode cX0_textByte 15 = .ok (.iconst 0, 1) := dk_3 (dk_at dksX0_textByte_0 15 rfl rfl)
theorem dX0_textByte_16 : decode cX0_textByte 16 = .ok (.ireturn, 1) := dk_172 (dk_at dksX0_textByte_0 16 rfl rfl)
abbrev cX0_insert : ByteArray := method_32_code
def yX0_insert : MethodName := ⟨RX0, "insert", "(LFoldLister;II[J)I"⟩
def dkwX0_insert_0 : List UInt8 := [45, 3, 42, 27, 28, 182, 0, 105, 133, 80, 167, 0, 11, 58, 4, 4, 172, 58, 4, 5, 172, 3, 172]
abbrev dktX0_insert_0 : List UInt8 := dkwX0_insert_0 ++ []
theorem dksX0_insert_0 : cX0_insert.data.toList.drop 0 = dktX0_insert_0 := by decide +kernel
theorem dX0_insert_0 : decode cX0_insert 0 = .ok (.aload_n 3, 1) := dk_45 (dk_at dksX0_insert_0 0 rfl rfl)
theorem dX0_insert_1 : decode cX0_insert 1 = .ok (.iconst 0, 1) := dk_3 (dk_at dksX0_insert_0 1 rfl rfl)
theorem dX0_insert_2 : decode cX0_insert 2 = .ok (.aload_n 0, 1) := dk_42 (dk_at dksX0_insert_0 2 rfl rfl)
theorem dX0_insert_3 : decode cX0_insert 3 = .ok (.iload_n 1, 1) := dk_27 (dk_at dksX0_insert_0 3 rfl rfl)
theorem dX0_insert_4 : decode cX0_insert 4 = .ok (.iload_n 2, 1) := dk_28 (dk_at dksX0_insert_0 4 rfl rfl)
theorem dX0_insert_5 : decode cX0_insert 5 = .ok (.invokevirtual 105, 3) := dk_182 0 105 (dk_at dksX0_insert_0 5 rfl rfl)
theorem dX0_insert_8 : decode cX0_insert 8 = .ok (.i2l, 1) := dk_133 (dk_at dksX0_insert_0 8 rfl rfl)
theorem dX0_insert_9 : decode cX0_insert 9 = .ok (.lastore, 1) := dk_80 (dk_at dksX0_insert_0 9 rfl rfl)
theorem dX0_insert_10 : decode cX0_insert 10 = .ok (.goto 11, 3) := dk_167 0 11 (dk_at dksX0_insert_0 10 rfl rfl)
theorem dX0_insert_13 : decode cX0_insert 13 = .ok (.astore 4, 2) := dk_58 4 (dk_at dksX0_insert_0 13 rfl rfl)
theorem dX0_insert_15 : decode cX0_insert 15 = .ok (.iconst 1, 1) := dk_4 (dk_at dksX0_insert_0 15 rfl rfl)
theorem dX0_insert_16 : decode cX0_insert 16 = .ok (.ireturn, 1) := dk_172 (dk_at dksX0_insert_0 16 rfl rfl)
theorem dX0_insert_17 : decode cX0_insert 17 = .ok (.astore 4, 2) := dk_58 4 (dk_at dksX0_insert_0 17 rfl rfl)
theorem dX0_insert_19 : decode cX0_insert 19 = .ok (.iconst 2, 1) := dk_5 (dk_at dksX0_insert_0 19 rfl rfl)
theorem dX0_insert_20 : decode cX0_insert 20 = .ok (.ireturn, 1) := dk_172 (dk_at dksX0_insert_0 20 rfl rfl)
theorem dX0_insert_21 : decode cX0_insert 21 = .ok (.iconst 0, 1) := dk_3 (dk_at dksX0_insert_0 21 rfl rfl)
theorem dX0_insert_22 : decode cX0_insert 22 = .ok (.ireturn, 1) := dk_172 (dk_at dksX0_insert_0 22 rfl rfl)
abbrev cX0_replace : ByteArray := method_33_code
def yX0_replace : MethodName := ⟨RX0, "replace", "(LFoldLister;II[J)I"⟩
def dkwX0_replace_0 : List UInt8 := [45, 3, 42, 27, 28, 182, 0, 108, 133, 80, 167, 0, 11, 58, 4, 4, 172, 58, 4, 5, 172, 3, 172]
abbrev dktX0_replace_0 : List UInt8 := dkwX0_replace_0 ++ []
theorem dksX0_replace_0 : cX0_replace.data.toList.drop 0 = dktX0_replace_0 := by decide +kernel
theorem dX0_replace_0 : decode cX0_replace 0 = .ok (.aload_n 3, 1) := dk_45 (dk_at dksX0_replace_0 0 rfl rfl)
theorem dX0_replace_1 : decode cX0_replace 1 = .ok (.iconst 0, 1) := dk_3 (dk_at dksX0_replace_0 1 rfl rfl)
theorem dX0_replace_2 : decode cX0_replace 2 = .ok (.aload_n 0, 1) := dk_42 (dk_at dksX0_replace_0 2 rfl rfl)
theorem dX0_replace_3 : decode cX0_replace 3 = .ok (.iload_n 1, 1) := dk_27 (dk_at dksX0_replace_0 3 rfl rfl)
theorem dX0_replace_4 : decode cX0_replace 4 = .ok (.iload_n 2, 1) := dk_28 (dk_at dksX0_replace_0 4 rfl rfl)
theorem dX0_replace_5 : decode cX0_replace 5 = .ok (.invokevirtual 108, 3) := dk_182 0 108 (dk_at dksX0_replace_0 5 rfl rfl)
theorem dX0_replace_8 : decode cX0_replace 8 = .ok (.i2l, 1) := dk_133 (dk_at dksX0_replace_0 8 rfl rfl)
theorem dX0_replace_9 : decode cX0_replace 9 = .ok (.lastore, 1) := dk_80 (dk_at dksX0_replace_0 9 rfl rfl)
theorem dX0_replace_10 : decode cX0_replace 10 = .ok (.goto 11, 3) := dk_167 0 11 (dk_at dksX0_replace_0 10 rfl rfl)
theorem dX0_replace_13 : decode cX0_replace 13 = .ok (.astore 4, 2) := dk_58 4 (dk_at dksX0_replace_0 13 rfl rfl)
theorem dX0_replace_15 : decode cX0_replace 15 = .ok (.iconst 1, 1) := dk_4 (dk_at dksX0_replace_0 15 rfl rfl)
theorem dX0_replace_16 : decode cX0_replace 16 = .ok (.ireturn, 1) := dk_172 (dk_at dksX0_replace_0 16 rfl rfl)
theorem dX0_replace_17 : decode cX0_replace 17 = .ok (.astore 4, 2) := dk_58 4 (dk_at dksX0_replace_0 17 rfl rfl)
theorem dX0_replace_19 : decode cX0_replace 19 = .ok (.iconst 2, 1) := dk_5 (dk_at dksX0_replace_0 19 rfl rfl)
theorem dX0_replace_20 : decode cX0_replace 20 = .ok (.ireturn, 1) := dk_172 (dk_at dksX0_replace_0 20 rfl rfl)
theorem dX0_replace_21 : decode cX0_replace 21 = .ok (.iconst 0, 1) := dk_3 (dk_at dksX0_replace_0 21 rfl rfl)
theorem dX0_replace_22 : decode cX0_replace 22 = .ok (.ireturn, 1) := dk_172 (dk_at dksX0_replace_0 22 rfl rfl)
abbrev cX0_join : ByteArray := method_34_code
def yX0_join : MethodName := ⟨RX0, "join", "(LFoldLister;I[J)I"⟩
def dkwX0_join_0 : List UInt8 := [44, 3, 42, 27, 182, 0, 111, 133, 80, 167, 0, 9, 78, 4, 172, 78, 5, 172, 3, 172]
abbrev dktX0_join_0 : List UInt8 := dkwX0_join_0 ++ []
theorem dksX0_join_0 : cX0_join.data.toList.drop 0 = dktX0_join_0 := by decide +kernel
theorem dX0_join_0 : decode cX0_join 0 = .ok (.aload_n 2, 1) := dk_44 (dk_at dksX0_join_0 0 rfl rfl)
theorem dX0_join_1 : decode cX0_join 1 = .ok (.iconst 0, 1) := dk_3 (dk_at dksX0_join_0 1 rfl rfl)
theorem dX0_join_2 : decode cX0_join 2 = .ok (.aload_n 0, 1) := dk_42 (dk_at dksX0_join_0 2 rfl rfl)
theorem dX0_join_3 : decode cX0_join 3 = .ok (.iload_n 1, 1) := dk_27 (dk_at dksX0_join_0 3 rfl rfl)
theorem dX0_join_4 : decode cX0_join 4 = .ok (.invokevirtual 111, 3) := dk_182 0 111 (dk_at dksX0_join_0 4 rfl rfl)
theorem dX0_join_7 : decode cX0_join 7 = .ok (.i2l, 1) := dk_133 (dk_at dksX0_join_0 7 rfl rfl)
theorem dX0_join_8 : decode cX0_join 8 = .ok (.lastore, 1) := dk_80 (dk_at dksX0_join_0 8 rfl rfl)
theorem dX0_join_9 : decode cX0_join 9 = .ok (.goto 9, 3) := dk_167 0 9 (dk_at dksX0_join_0 9 rfl rfl)
theorem dX0_join_12 : decode cX0_join 12 = .ok (.astore_n 3, 1) := dk_78 (dk_at dksX0_join_0 12 rfl rfl)
theorem dX0_join_13 : decode cX0_join 13 = .ok (.iconst 1, 1) := dk_4 (dk_at dksX0_join_0 13 rfl rfl)
theorem dX0_join_14 : decode cX0_join 14 = .ok (.ireturn, 1) := dk_172 (dk_at dksX0_join_0 14 rfl rfl)
theorem dX0_join_15 : decode cX0_join 15 = .ok (.astore_n 3, 1) := dk_78 (dk_at dksX0_join_0 15 rfl rfl)
theorem dX0_join_16 : decode cX0_join 16 = .ok (.iconst 2, 1) := dk_5 (dk_at dksX0_join_0 16 rfl rfl)
theorem dX0_join_17 : decode cX0_join 17 = .ok (.ireturn, 1) := dk_172 (dk_at dksX0_join_0 17 rfl rfl)
theorem dX0_join_18 : decode cX0_join 18 = .ok (.iconst 0, 1) := dk_3 (dk_at dksX0_join_0 18 rfl rfl)
theorem dX0_join_19 : decode cX0_join 19 = .ok (.ireturn, 1) := dk_172 (dk_at dksX0_join_0 19 rfl rfl)
abbrev cX0_part : ByteArray := method_35_code
def yX0_part : MethodName := ⟨RX0, "part", "(LFoldLister;II[J)I"⟩
def dkwX0_part_0 : List UInt8 := [45, 3, 42, 27, 28, 182, 0, 114, 133, 80, 167, 0, 11, 58, 4, 4, 172, 58, 4, 5, 172, 3, 172]
abbrev dktX0_part_0 : List UInt8 := dkwX0_part_0 ++ []
theorem dksX0_part_0 : cX0_part.data.toList.drop 0 = dktX0_part_0 := by decide +kernel
theorem dX0_part_0 : decode cX0_part 0 = .ok (.aload_n 3, 1) := dk_45 (dk_at dksX0_part_0 0 rfl rfl)
theorem dX0_part_1 : decode cX0_part 1 = .ok (.iconst 0, 1) := dk_3 (dk_at dksX0_part_0 1 rfl rfl)
theorem dX0_part_2 : decode cX0_part 2 = .ok (.aload_n 0, 1) := dk_42 (dk_at dksX0_part_0 2 rfl rfl)
theorem dX0_part_3 : decode cX0_part 3 = .ok (.iload_n 1, 1) := dk_27 (dk_at dksX0_part_0 3 rfl rfl)
theorem dX0_part_4 : decode cX0_part 4 = .ok (.iload_n 2, 1) := dk_28 (dk_at dksX0_part_0 4 rfl rfl)
theorem dX0_part_5 : decode cX0_part 5 = .ok (.invokevirtual 114, 3) := dk_182 0 114 (dk_at dksX0_part_0 5 rfl rfl)
theorem dX0_part_8 : decode cX0_part 8 = .ok (.i2l, 1) := dk_133 (dk_at dksX0_part_0 8 rfl rfl)
theorem dX0_part_9 : decode cX0_part 9 = .ok (.lastore, 1) := dk_80 (dk_at dksX0_part_0 9 rfl rfl)
theorem dX0_part_10 : decode cX0_part 10 = .ok (.goto 11, 3) := dk_167 0 11 (dk_at dksX0_part_0 10 rfl rfl)
theorem dX0_part_13 : decode cX0_part 13 = .ok (.astore 4, 2) := dk_58 4 (dk_at dksX0_part_0 13 rfl rfl)
theorem dX0_part_15 : decode cX0_part 15 = .ok (.iconst 1, 1) := dk_4 (dk_at dksX0_part_0 15 rfl rfl)
theorem dX0_part_16 : decode cX0_part 16 = .ok (.ireturn, 1) := dk_172 (dk_at dksX0_part_0 16 rfl rfl)
theorem dX0_part_17 : decode cX0_part 17 = .ok (.astore 4, 2) := dk_58 4 (dk_at dksX0_part_0 17 rfl rfl)
theorem dX0_part_19 : decode cX0_part 19 = .ok (.iconst 2, 1) := dk_5 (dk_at dksX0_part_0 19 rfl rfl)
theorem dX0_part_20 : decode cX0_part 20 = .ok (.ireturn, 1) := dk_172 (dk_at dksX0_part_0 20 rfl rfl)
theorem dX0_part_21 : decode cX0_part 21 = .ok (.iconst 0, 1) := dk_3 (dk_at dksX0_part_0 21 rfl rfl)
theorem dX0_part_22 : decode cX0_part 22 = .ok (.ireturn, 1) := dk_172 (dk_at dksX0_part_0 22 rfl rfl)
abbrev cX0_remove : ByteArray := method_36_code
def yX0_remove : MethodName := ⟨RX0, "remove", "(LFoldLister;II[J)I"⟩
def dkwX0_remove_0 : List UInt8 := [45, 3, 42, 27, 28, 182, 0, 117, 133, 80, 167, 0, 11, 58, 4, 4, 172, 58, 4, 5, 172, 3, 172]
abbrev dktX0_remove_0 : List UInt8 := dkwX0_remove_0 ++ []
theorem dksX0_remove_0 : cX0_remove.data.toList.drop 0 = dktX0_remove_0 := by decide +kernel
theorem dX0_remove_0 : decode cX0_remove 0 = .ok (.aload_n 3, 1) := dk_45 (dk_at dksX0_remove_0 0 rfl rfl)
theorem dX0_remove_1 : decode cX0_remove 1 = .ok (.iconst 0, 1) := dk_3 (dk_at dksX0_remove_0 1 rfl rfl)
theorem dX0_remove_2 : decode cX0_remove 2 = .ok (.aload_n 0, 1) := dk_42 (dk_at dksX0_remove_0 2 rfl rfl)
theorem dX0_remove_3 : decode cX0_remove 3 = .ok (.iload_n 1, 1) := dk_27 (dk_at dksX0_remove_0 3 rfl rfl)
theorem dX0_remove_4 : decode cX0_remove 4 = .ok (.iload_n 2, 1) := dk_28 (dk_at dksX0_remove_0 4 rfl rfl)
theorem dX0_remove_5 : decode cX0_remove 5 = .ok (.invokevirtual 117, 3) := dk_182 0 117 (dk_at dksX0_remove_0 5 rfl rfl)
theorem dX0_remove_8 : decode cX0_remove 8 = .ok (.i2l, 1) := dk_133 (dk_at dksX0_remove_0 8 rfl rfl)
theorem dX0_remove_9 : decode cX0_remove 9 = .ok (.lastore, 1) := dk_80 (dk_at dksX0_remove_0 9 rfl rfl)
theorem dX0_remove_10 : decode cX0_remove 10 = .ok (.goto 11, 3) := dk_167 0 11 (dk_at dksX0_remove_0 10 rfl rfl)
theorem dX0_remove_13 : decode cX0_remove 13 = .ok (.astore 4, 2) := dk_58 4 (dk_at dksX0_remove_0 13 rfl rfl)
theorem dX0_remove_15 : decode cX0_remove 15 = .ok (.iconst 1, 1) := dk_4 (dk_at dksX0_remove_0 15 rfl rfl)
theorem dX0_remove_16 : decode cX0_remove 16 = .ok (.ireturn, 1) := dk_172 (dk_at dksX0_remove_0 16 rfl rfl)
theorem dX0_remove_17 : decode cX0_remove 17 = .ok (.astore 4, 2) := dk_58 4 (dk_at dksX0_remove_0 17 rfl rfl)
theorem dX0_remove_19 : decode cX0_remove 19 = .ok (.iconst 2, 1) := dk_5 (dk_at dksX0_remove_0 19 rfl rfl)
theorem dX0_remove_20 : decode cX0_remove 20 = .ok (.ireturn, 1) := dk_172 (dk_at dksX0_remove_0 20 rfl rfl)
theorem dX0_remove_21 : decode cX0_remove 21 = .ok (.iconst 0, 1) := dk_3 (dk_at dksX0_remove_0 21 rfl rfl)
theorem dX0_remove_22 : decode cX0_remove 22 = .ok (.ireturn, 1) := dk_172 (dk_at dksX0_remove_0 22 rfl rfl)
abbrev cX0_move : ByteArray := method_37_code
def yX0_move : MethodName := ⟨RX0, "move", "(LFoldLister;III[J)I"⟩
def dkwX0_move_1 : List UInt8 := [172]
abbrev dktX0_move_1 : List UInt8 := dkwX0_move_1 ++ []
def dkwX0_move_0 : List UInt8 := [25, 4, 3, 42, 27, 28, 29, 182, 0, 120, 133, 80, 167, 0, 11, 58, 5, 4, 172, 58, 5, 5, 172, 3]
abbrev dktX0_move_0 : List UInt8 := dkwX0_move_0 ++ dktX0_move_1
theorem dksX0_move_0 : cX0_move.data.toList.drop 0 = dktX0_move_0 := by decide +kernel
theorem dksX0_move_1 : cX0_move.data.toList.drop 24 = dktX0_move_1 := dk_seg dksX0_move_0 24 rfl rfl
theorem dX0_move_0 : decode cX0_move 0 = .ok (.aload 4, 2) := dk_25 4 (dk_at dksX0_move_0 0 rfl rfl)
theorem dX0_move_2 : decode cX0_move 2 = .ok (.iconst 0, 1) := dk_3 (dk_at dksX0_move_0 2 rfl rfl)
theorem dX0_move_3 : decode cX0_move 3 = .ok (.aload_n 0, 1) := dk_42 (dk_at dksX0_move_0 3 rfl rfl)
theorem dX0_move_4 : decode cX0_move 4 = .ok (.iload_n 1, 1) := dk_27 (dk_at dksX0_move_0 4 rfl rfl)
theorem dX0_move_5 : decode cX0_move 5 = .ok (.iload_n 2, 1) := dk_28 (dk_at dksX0_move_0 5 rfl rfl)
theorem dX0_move_6 : decode cX0_move 6 = .ok (.iload_n 3, 1) := dk_29 (dk_at dksX0_move_0 6 rfl rfl)
theorem dX0_move_7 : decode cX0_move 7 = .ok (.invokevirtual 120, 3) := dk_182 0 120 (dk_at dksX0_move_0 7 rfl rfl)
theorem dX0_move_10 : decode cX0_move 10 = .ok (.i2l, 1) := dk_133 (dk_at dksX0_move_0 10 rfl rfl)
theorem dX0_move_11 : decode cX0_move 11 = .ok (.lastore, 1) := dk_80 (dk_at dksX0_move_0 11 rfl rfl)
theorem dX0_move_12 : decode cX0_move 12 = .ok (.goto 11, 3) := dk_167 0 11 (dk_at dksX0_move_0 12 rfl rfl)
theorem dX0_move_15 : decode cX0_move 15 = .ok (.astore 5, 2) := dk_58 5 (dk_at dksX0_move_0 15 rfl rfl)
theorem dX0_move_17 : decode cX0_move 17 = .ok (.iconst 1, 1) := dk_4 (dk_at dksX0_move_0 17 rfl rfl)
theorem dX0_move_18 : decode cX0_move 18 = .ok (.ireturn, 1) := dk_172 (dk_at dksX0_move_0 18 rfl rfl)
theorem dX0_move_19 : decode cX0_move 19 = .ok (.astore 5, 2) := dk_58 5 (dk_at dksX0_move_0 19 rfl rfl)
theorem dX0_move_21 : decode cX0_move 21 = .ok (.iconst 2, 1) := dk_5 (dk_at dksX0_move_0 21 rfl rfl)
theorem dX0_move_22 : decode cX0_move 22 = .ok (.ireturn, 1) := dk_172 (dk_at dksX0_move_0 22 rfl rfl)
theorem dX0_move_23 : decode cX0_move 23 = .ok (.iconst 0, 1) := dk_3 (dk_at dksX0_move_0 23 rfl rfl)
theorem dX0_move_24 : decode cX0_move 24 = .ok (.ireturn, 1) := dk_172 (dk_at dksX0_move_1 0 rfl rfl)
abbrev cX0_copy : ByteArray := method_38_code
def yX0_copy : MethodName := ⟨RX0, "copy", "(LFoldLister;III[J)I"⟩
def dkwX0_copy_1 : List UInt8 := [172]
abbrev dktX0_copy_1 : List UInt8 := dkwX0_copy_1 ++ []
def dkwX0_copy_0 : List UInt8 := [25, 4, 3, 42, 27, 28, 29, 182, 0, 124, 133, 80, 167, 0, 11, 58, 5, 4, 172, 58, 5, 5, 172, 3]
abbrev dktX0_copy_0 : List UInt8 := dkwX0_copy_0 ++ dktX0_copy_1
theorem dksX0_copy_0 : cX0_copy.data.toList.drop 0 = dktX0_copy_0 := by decide +kernel
theorem dksX0_copy_1 : cX0_copy.data.toList.drop 24 = dktX0_copy_1 := dk_seg dksX0_copy_0 24 rfl rfl
theorem dX0_copy_0 : decode cX0_copy 0 = .ok (.aload 4, 2) := dk_25 4 (dk_at dksX0_copy_0 0 rfl rfl)
theorem dX0_copy_2 : decode cX0_copy 2 = .ok (.iconst 0, 1) := dk_3 (dk_at dksX0_copy_0 2 rfl rfl)
theorem dX0_copy_3 : decode cX0_copy 3 = .ok (.aload_n 0, 1) := dk_42 (dk_at dksX0_copy_0 3 rfl rfl)
theorem dX0_copy_4 : decode cX0_copy 4 = .ok (.iload_n 1, 1) := dk_27 (dk_at dksX0_copy_0 4 rfl rfl)
theorem dX0_copy_5 : decode cX0_copy 5 = .ok (.iload_n 2, 1) := dk_28 (dk_at dksX0_copy_0 5 rfl rfl)
theorem dX0_copy_6 : decode cX0_copy 6 = .ok (.iload_n 3, 1) := dk_29 (dk_at dksX0_copy_0 6 rfl rfl)
theorem dX0_copy_7 : decode cX0_copy 7 = .ok (.invokevirtual 124, 3) := dk_182 0 124 (dk_at dksX0_copy_0 7 rfl rfl)
theorem dX0_copy_10 : decode cX0_copy 10 = .ok (.i2l, 1) := dk_133 (dk_at dksX0_copy_0 10 rfl rfl)
theorem dX0_copy_11 : decode cX0_copy 11 = .ok (.lastore, 1) := dk_80 (dk_at dksX0_copy_0 11 rfl rfl)
theorem dX0_copy_12 : decode cX0_copy 12 = .ok (.goto 11, 3) := dk_167 0 11 (dk_at dksX0_copy_0 12 rfl rfl)
theorem dX0_copy_15 : decode cX0_copy 15 = .ok (.astore 5, 2) := dk_58 5 (dk_at dksX0_copy_0 15 rfl rfl)
theorem dX0_copy_17 : decode cX0_copy 17 = .ok (.iconst 1, 1) := dk_4 (dk_at dksX0_copy_0 17 rfl rfl)
theorem dX0_copy_18 : decode cX0_copy 18 = .ok (.ireturn, 1) := dk_172 (dk_at dksX0_copy_0 18 rfl rfl)
theorem dX0_copy_19 : decode cX0_copy 19 = .ok (.astore 5, 2) := dk_58 5 (dk_at dksX0_copy_0 19 rfl rfl)
theorem dX0_copy_21 : decode cX0_copy 21 = .ok (.iconst 2, 1) := dk_5 (dk_at dksX0_copy_0 21 rfl rfl)
theorem dX0_copy_22 : decode cX0_copy 22 = .ok (.ireturn, 1) := dk_172 (dk_at dksX0_copy_0 22 rfl rfl)
theorem dX0_copy_23 : decode cX0_copy 23 = .ok (.iconst 0, 1) := dk_3 (dk_at dksX0_copy_0 23 rfl rfl)
theorem dX0_copy_24 : decode cX0_copy 24 = .ok (.ireturn, 1) := dk_172 (dk_at dksX0_copy_1 0 rfl rfl)
abbrev cX0_reverse : ByteArray := method_39_code
def yX0_reverse : MethodName := ⟨RX0, "reverse", "(LFoldLister;II[J)I"⟩
def dkwX0_reverse_0 : List UInt8 := [45, 3, 42, 27, 28, 182, 0, 127, 133, 80, 167, 0, 11, 58, 4, 4, 172, 58, 4, 5, 172, 3, 172]
abbrev dktX0_reverse_0 : List UInt8 := dkwX0_reverse_0 ++ []
theorem dksX0_reverse_0 : cX0_reverse.data.toList.drop 0 = dktX0_reverse_0 := by decide +kernel
theorem dX0_reverse_0 : decode cX0_reverse 0 = .ok (.aload_n 3, 1) := dk_45 (dk_at dksX0_reverse_0 0 rfl rfl)
theorem dX0_reverse_1 : decode cX0_reverse 1 = .ok (.iconst 0, 1) := dk_3 (dk_at dksX0_reverse_0 1 rfl rfl)
theorem dX0_reverse_2 : decode cX0_reverse 2 = .ok (.aload_n 0, 1) := dk_42 (dk_at dksX0_reverse_0 2 rfl rfl)
theorem dX0_reverse_3 : decode cX0_reverse 3 = .ok (.iload_n 1, 1) := dk_27 (dk_at dksX0_reverse_0 3 rfl rfl)
theorem dX0_reverse_4 : decode cX0_reverse 4 = .ok (.iload_n 2, 1) := dk_28 (dk_at dksX0_reverse_0 4 rfl rfl)
theorem dX0_reverse_5 : decode cX0_reverse 5 = .ok (.invokevirtual 127, 3) := dk_182 0 127 (dk_at dksX0_reverse_0 5 rfl rfl)
theorem dX0_reverse_8 : decode cX0_reverse 8 = .ok (.i2l, 1) := dk_133 (dk_at dksX0_reverse_0 8 rfl rfl)
theorem dX0_reverse_9 : decode cX0_reverse 9 = .ok (.lastore, 1) := dk_80 (dk_at dksX0_reverse_0 9 rfl rfl)
theorem dX0_reverse_10 : decode cX0_reverse 10 = .ok (.goto 11, 3) := dk_167 0 11 (dk_at dksX0_reverse_0 10 rfl rfl)
theorem dX0_reverse_13 : decode cX0_reverse 13 = .ok (.astore 4, 2) := dk_58 4 (dk_at dksX0_reverse_0 13 rfl rfl)
theorem dX0_reverse_15 : decode cX0_reverse 15 = .ok (.iconst 1, 1) := dk_4 (dk_at dksX0_reverse_0 15 rfl rfl)
theorem dX0_reverse_16 : decode cX0_reverse 16 = .ok (.ireturn, 1) := dk_172 (dk_at dksX0_reverse_0 16 rfl rfl)
theorem dX0_reverse_17 : decode cX0_reverse 17 = .ok (.astore 4, 2) := dk_58 4 (dk_at dksX0_reverse_0 17 rfl rfl)
theorem dX0_reverse_19 : decode cX0_reverse 19 = .ok (.iconst 2, 1) := dk_5 (dk_at dksX0_reverse_0 19 rfl rfl)
theorem dX0_reverse_20 : decode cX0_reverse 20 = .ok (.ireturn, 1) := dk_172 (dk_at dksX0_reverse_0 20 rfl rfl)
theorem dX0_reverse_21 : decode cX0_reverse 21 = .ok (.iconst 0, 1) := dk_3 (dk_at dksX0_reverse_0 21 rfl rfl)
theorem dX0_reverse_22 : decode cX0_reverse 22 = .ok (.ireturn, 1) := dk_172 (dk_at dksX0_reverse_0 22 rfl rfl)
abbrev cX0_close : ByteArray := method_40_code
def yX0_close : MethodName := ⟨RX0, "close", "(LFoldLister;IZ[J)I"⟩
def dkwX0_close_1 : List UInt8 := [3, 172]
abbrev dktX0_close_1 : List UInt8 := dkwX0_close_1 ++ []
def dkwX0_close_0 : List UInt8 := [45, 3, 42, 27, 28, 182, 0, 130, 153, 0, 7, 10, 167, 0, 4, 9, 80, 167, 0, 7, 58, 4, 4, 172]
abbrev dktX0_close_0 : List UInt8 := dkwX0_close_0 ++ dktX0_close_1
theorem dksX0_close_0 : cX0_close.data.toList.drop 0 = dktX0_close_0 := by decide +kernel
theorem dksX0_close_1 : cX0_close.data.toList.drop 24 = dktX0_close_1 := dk_seg dksX0_close_0 24 rfl rfl
theorem dX0_close_0 : decode cX0_close 0 = .ok (.aload_n 3, 1) := dk_45 (dk_at dksX0_close_0 0 rfl rfl)
theorem dX0_close_1 : decode cX0_close 1 = .ok (.iconst 0, 1) := dk_3 (dk_at dksX0_close_0 1 rfl rfl)
theorem dX0_close_2 : decode cX0_close 2 = .ok (.aload_n 0, 1) := dk_42 (dk_at dksX0_close_0 2 rfl rfl)
theorem dX0_close_3 : decode cX0_close 3 = .ok (.iload_n 1, 1) := dk_27 (dk_at dksX0_close_0 3 rfl rfl)
theorem dX0_close_4 : decode cX0_close 4 = .ok (.iload_n 2, 1) := dk_28 (dk_at dksX0_close_0 4 rfl rfl)
theorem dX0_close_5 : decode cX0_close 5 = .ok (.invokevirtual 130, 3) := dk_182 0 130 (dk_at dksX0_close_0 5 rfl rfl)
theorem dX0_close_8 : decode cX0_close 8 = .ok (.ifCond .eq 7, 3) := dk_153 0 7 (dk_at dksX0_close_0 8 rfl rfl)
theorem dX0_close_11 : decode cX0_close 11 = .ok (.lconst 1, 1) := dk_10 (dk_at dksX0_close_0 11 rfl rfl)
theorem dX0_close_12 : decode cX0_close 12 = .ok (.goto 4, 3) := dk_167 0 4 (dk_at dksX0_close_0 12 rfl rfl)
theorem dX0_close_15 : decode cX0_close 15 = .ok (.lconst 0, 1) := dk_9 (dk_at dksX0_close_0 15 rfl rfl)
theorem dX0_close_16 : decode cX0_close 16 = .ok (.lastore, 1) := dk_80 (dk_at dksX0_close_0 16 rfl rfl)
theorem dX0_close_17 : decode cX0_close 17 = .ok (.goto 7, 3) := dk_167 0 7 (dk_at dksX0_close_0 17 rfl rfl)
theorem dX0_close_20 : decode cX0_close 20 = .ok (.astore 4, 2) := dk_58 4 (dk_at dksX0_close_0 20 rfl rfl)
theorem dX0_close_22 : decode cX0_close 22 = .ok (.iconst 1, 1) := dk_4 (dk_at dksX0_close_0 22 rfl rfl)
theorem dX0_close_23 : decode cX0_close 23 = .ok (.ireturn, 1) := dk_172 (dk_at dksX0_close_0 23 rfl rfl)
theorem dX0_close_24 : decode cX0_close 24 = .ok (.iconst 0, 1) := dk_3 (dk_at dksX0_close_1 0 rfl rfl)
theorem dX0_close_25 : decode cX0_close 25 = .ok (.ireturn, 1) := dk_172 (dk_at dksX0_close_1 1 rfl rfl)
abbrev cX0_fold : ByteArray := method_41_code
def yX0_fold : MethodName := ⟨RX0, "fold", "(LFoldLister;I[J)I"⟩
def dkwX0_fold_0 : List UInt8 := [44, 3, 42, 27, 182, 0, 134, 133, 80, 167, 0, 9, 78, 4, 172, 78, 5, 172, 3, 172]
abbrev dktX0_fold_0 : List UInt8 := dkwX0_fold_0 ++ []
theorem dksX0_fold_0 : cX0_fold.data.toList.drop 0 = dktX0_fold_0 := by decide +kernel
theorem dX0_fold_0 : decode cX0_fold 0 = .ok (.aload_n 2, 1) := dk_44 (dk_at dksX0_fold_0 0 rfl rfl)
theorem dX0_fold_1 : decode cX0_fold 1 = .ok (.iconst 0, 1) := dk_3 (dk_at dksX0_fold_0 1 rfl rfl)
theorem dX0_fold_2 : decode cX0_fold 2 = .ok (.aload_n 0, 1) := dk_42 (dk_at dksX0_fold_0 2 rfl rfl)
theorem dX0_fold_3 : decode cX0_fold 3 = .ok (.iload_n 1, 1) := dk_27 (dk_at dksX0_fold_0 3 rfl rfl)
theorem dX0_fold_4 : decode cX0_fold 4 = .ok (.invokevirtual 134, 3) := dk_182 0 134 (dk_at dksX0_fold_0 4 rfl rfl)
theorem dX0_fold_7 : decode cX0_fold 7 = .ok (.i2l, 1) := dk_133 (dk_at dksX0_fold_0 7 rfl rfl)
theorem dX0_fold_8 : decode cX0_fold 8 = .ok (.lastore, 1) := dk_80 (dk_at dksX0_fold_0 8 rfl rfl)
theorem dX0_fold_9 : decode cX0_fold 9 = .ok (.goto 9, 3) := dk_167 0 9 (dk_at dksX0_fold_0 9 rfl rfl)
theorem dX0_fold_12 : decode cX0_fold 12 = .ok (.astore_n 3, 1) := dk_78 (dk_at dksX0_fold_0 12 rfl rfl)
theorem dX0_fold_13 : decode cX0_fold 13 = .ok (.iconst 1, 1) := dk_4 (dk_at dksX0_fold_0 13 rfl rfl)
theorem dX0_fold_14 : decode cX0_fold 14 = .ok (.ireturn, 1) := dk_172 (dk_at dksX0_fold_0 14 rfl rfl)
theorem dX0_fold_15 : decode cX0_fold 15 = .ok (.astore_n 3, 1) := dk_78 (dk_at dksX0_fold_0 15 rfl rfl)
theorem dX0_fold_16 : decode cX0_fold 16 = .ok (.iconst 2, 1) := dk_5 (dk_at dksX0_fold_0 16 rfl rfl)
theorem dX0_fold_17 : decode cX0_fold 17 = .ok (.ireturn, 1) := dk_172 (dk_at dksX0_fold_0 17 rfl rfl)
theorem dX0_fold_18 : decode cX0_fold 18 = .ok (.iconst 0, 1) := dk_3 (dk_at dksX0_fold_0 18 rfl rfl)
theorem dX0_fold_19 : decode cX0_fold 19 = .ok (.ireturn, 1) := dk_172 (dk_at dksX0_fold_0 19 rfl rfl)
abbrev cX0_closeLevel : ByteArray := method_42_code
def yX0_closeLevel : MethodName := ⟨RX0, "closeLevel", "(LFoldLister;I[J)I"⟩
def dkwX0_closeLevel_0 : List UInt8 := [44, 3, 42, 27, 182, 0, 137, 133, 80, 167, 0, 6, 78, 4, 172, 3, 172]
abbrev dktX0_closeLevel_0 : List UInt8 := dkwX0_closeLevel_0 ++ []
theorem dksX0_closeLevel_0 : cX0_closeLevel.data.toList.drop 0 = dktX0_closeLevel_0 := by decide +kernel
theorem dX0_closeLevel_0 : decode cX0_closeLevel 0 = .ok (.aload_n 2, 1) := dk_44 (dk_at dksX0_closeLevel_0 0 rfl rfl)
theorem dX0_closeLevel_1 : decode cX0_closeLevel 1 = .ok (.iconst 0, 1) := dk_3 (dk_at dksX0_closeLevel_0 1 rfl rfl)
theorem dX0_closeLevel_2 : decode cX0_closeLevel 2 = .ok (.aload_n 0, 1) := dk_42 (dk_at dksX0_closeLevel_0 2 rfl rfl)
theorem dX0_closeLevel_3 : decode cX0_closeLevel 3 = .ok (.iload_n 1, 1) := dk_27 (dk_at dksX0_closeLevel_0 3 rfl rfl)
theorem dX0_closeLevel_4 : decode cX0_closeLevel 4 = .ok (.invokevirtual 137, 3) := dk_182 0 137 (dk_at dksX0_closeLevel_0 4 rfl rfl)
theorem dX0_closeLevel_7 : decode cX0_closeLevel 7 = .ok (.i2l, 1) := dk_133 (dk_at dksX0_closeLevel_0 7 rfl rfl)
theorem dX0_closeLevel_8 : decode cX0_closeLevel 8 = .ok (.lastore, 1) := dk_80 (dk_at dksX0_closeLevel_0 8 rfl rfl)
theorem dX0_closeLevel_9 : decode cX0_closeLevel 9 = .ok (.goto 6, 3) := dk_167 0 6 (dk_at dksX0_closeLevel_0 9 rfl rfl)
theorem dX0_closeLevel_12 : decode cX0_closeLevel 12 = .ok (.astore_n 3, 1) := dk_78 (dk_at dksX0_closeLevel_0 12 rfl rfl)
theorem dX0_closeLevel_13 : decode cX0_closeLevel 13 = .ok (.iconst 1, 1) := dk_4 (dk_at dksX0_closeLevel_0 13 rfl rfl)
theorem dX0_closeLevel_14 : decode cX0_closeLevel 14 = .ok (.ireturn, 1) := dk_172 (dk_at dksX0_closeLevel_0 14 rfl rfl)
theorem dX0_closeLevel_15 : decode cX0_closeLevel 15 = .ok (.iconst 0, 1) := dk_3 (dk_at dksX0_closeLevel_0 15 rfl rfl)
theorem dX0_closeLevel_16 : decode cX0_closeLevel 16 = .ok (.ireturn, 1) := dk_172 (dk_at dksX0_closeLevel_0 16 rfl rfl)
abbrev cX0_show : ByteArray := method_43_code
def yX0_show : MethodName := ⟨RX0, "show", "(LFoldLister;I[J)I"⟩
def dkwX0_show_0 : List UInt8 := [44, 3, 42, 27, 182, 0, 140, 133, 80, 167, 0, 6, 78, 4, 172, 3, 172]
abbrev dktX0_show_0 : List UInt8 := dkwX0_show_0 ++ []
theorem dksX0_show_0 : cX0_show.data.toList.drop 0 = dktX0_show_0 := by decide +kernel
theorem dX0_show_0 : decode cX0_show 0 = .ok (.aload_n 2, 1) := dk_44 (dk_at dksX0_show_0 0 rfl rfl)
theorem dX0_show_1 : decode cX0_show 1 = .ok (.iconst 0, 1) := dk_3 (dk_at dksX0_show_0 1 rfl rfl)
theorem dX0_show_2 : decode cX0_show 2 = .ok (.aload_n 0, 1) := dk_42 (dk_at dksX0_show_0 2 rfl rfl)
theorem dX0_show_3 : decode cX0_show 3 = .ok (.iload_n 1, 1) := dk_27 (dk_at dksX0_show_0 3 rfl rfl)
theorem dX0_show_4 : decode cX0_show 4 = .ok (.invokevirtual 140, 3) := dk_182 0 140 (dk_at dksX0_show_0 4 rfl rfl)
theorem dX0_show_7 : decode cX0_show 7 = .ok (.i2l, 1) := dk_133 (dk_at dksX0_show_0 7 rfl rfl)
theorem dX0_show_8 : decode cX0_show 8 = .ok (.lastore, 1) := dk_80 (dk_at dksX0_show_0 8 rfl rfl)
theorem dX0_show_9 : decode cX0_show 9 = .ok (.goto 6, 3) := dk_167 0 6 (dk_at dksX0_show_0 9 rfl rfl)
theorem dX0_show_12 : decode cX0_show 12 = .ok (.astore_n 3, 1) := dk_78 (dk_at dksX0_show_0 12 rfl rfl)
theorem dX0_show_13 : decode cX0_show 13 = .ok (.iconst 1, 1) := dk_4 (dk_at dksX0_show_0 13 rfl rfl)
theorem dX0_show_14 : decode cX0_show 14 = .ok (.ireturn, 1) := dk_172 (dk_at dksX0_show_0 14 rfl rfl)
theorem dX0_show_15 : decode cX0_show 15 = .ok (.iconst 0, 1) := dk_3 (dk_at dksX0_show_0 15 rfl rfl)
theorem dX0_show_16 : decode cX0_show 16 = .ok (.ireturn, 1) := dk_172 (dk_at dksX0_show_0 16 rfl rfl)
abbrev cX0_mark : ByteArray := method_44_code
def yX0_mark : MethodName := ⟨RX0, "mark", "(LFoldLister;II[J)I"⟩
def dkwX0_mark_0 : List UInt8 := [45, 3, 42, 27, 28, 182, 0, 143, 133, 80, 167, 0, 7, 58, 4, 4, 172, 3, 172]
abbrev dktX0_mark_0 : List UInt8 := dkwX0_mark_0 ++ []
theorem dksX0_mark_0 : cX0_mark.data.toList.drop 0 = dktX0_mark_0 := by decide +kernel
theorem dX0_mark_0 : decode cX0_mark 0 = .ok (.aload_n 3, 1) := dk_45 (dk_at dksX0_mark_0 0 rfl rfl)
theorem dX0_mark_1 : decode cX0_mark 1 = .ok (.iconst 0, 1) := dk_3 (dk_at dksX0_mark_0 1 rfl rfl)
theorem dX0_mark_2 : decode cX0_mark 2 = .ok (.aload_n 0, 1) := dk_42 (dk_at dksX0_mark_0 2 rfl rfl)
theorem dX0_mark_3 : decode cX0_mark 3 = .ok (.iload_n 1, 1) := dk_27 (dk_at dksX0_mark_0 3 rfl rfl)
theorem dX0_mark_4 : decode cX0_mark 4 = .ok (.iload_n 2, 1) := dk_28 (dk_at dksX0_mark_0 4 rfl rfl)
theorem dX0_mark_5 : decode cX0_mark 5 = .ok (.invokevirtual 143, 3) := dk_182 0 143 (dk_at dksX0_mark_0 5 rfl rfl)
theorem dX0_mark_8 : decode cX0_mark 8 = .ok (.i2l, 1) := dk_133 (dk_at dksX0_mark_0 8 rfl rfl)
theorem dX0_mark_9 : decode cX0_mark 9 = .ok (.lastore, 1) := dk_80 (dk_at dksX0_mark_0 9 rfl rfl)
theorem dX0_mark_10 : decode cX0_mark 10 = .ok (.goto 7, 3) := dk_167 0 7 (dk_at dksX0_mark_0 10 rfl rfl)
theorem dX0_mark_13 : decode cX0_mark 13 = .ok (.astore 4, 2) := dk_58 4 (dk_at dksX0_mark_0 13 rfl rfl)
theorem dX0_mark_15 : decode cX0_mark 15 = .ok (.iconst 1, 1) := dk_4 (dk_at dksX0_mark_0 15 rfl rfl)
theorem dX0_mark_16 : decode cX0_mark 16 = .ok (.ireturn, 1) := dk_172 (dk_at dksX0_mark_0 16 rfl rfl)
theorem dX0_mark_17 : decode cX0_mark 17 = .ok (.iconst 0, 1) := dk_3 (dk_at dksX0_mark_0 17 rfl rfl)
theorem dX0_mark_18 : decode cX0_mark 18 = .ok (.ireturn, 1) := dk_172 (dk_at dksX0_mark_0 18 rfl rfl)
abbrev cX0_jump : ByteArray := method_45_code
def yX0_jump : MethodName := ⟨RX0, "jump", "(LFoldLister;I[J)I"⟩
def dkwX0_jump_0 : List UInt8 := [44, 3, 42, 27, 182, 0, 146, 133, 80, 167, 0, 6, 78, 4, 172, 3, 172]
abbrev dktX0_jump_0 : List UInt8 := dkwX0_jump_0 ++ []
theorem dksX0_jump_0 : cX0_jump.data.toList.drop 0 = dktX0_jump_0 := by decide +kernel
theorem dX0_jump_0 : decode cX0_jump 0 = .ok (.aload_n 2, 1) := dk_44 (dk_at dksX0_jump_0 0 rfl rfl)
theorem dX0_jump_1 : decode cX0_jump 1 = .ok (.iconst 0, 1) := dk_3 (dk_at dksX0_jump_0 1 rfl rfl)
theorem dX0_jump_2 : decode cX0_jump 2 = .ok (.aload_n 0, 1) := dk_42 (dk_at dksX0_jump_0 2 rfl rfl)
theorem dX0_jump_3 : decode cX0_jump 3 = .ok (.iload_n 1, 1) := dk_27 (dk_at dksX0_jump_0 3 rfl rfl)
theorem dX0_jump_4 : decode cX0_jump 4 = .ok (.invokevirtual 146, 3) := dk_182 0 146 (dk_at dksX0_jump_0 4 rfl rfl)
theorem dX0_jump_7 : decode cX0_jump 7 = .ok (.i2l, 1) := dk_133 (dk_at dksX0_jump_0 7 rfl rfl)
theorem dX0_jump_8 : decode cX0_jump 8 = .ok (.lastore, 1) := dk_80 (dk_at dksX0_jump_0 8 rfl rfl)
theorem dX0_jump_9 : decode cX0_jump 9 = .ok (.goto 6, 3) := dk_167 0 6 (dk_at dksX0_jump_0 9 rfl rfl)
theorem dX0_jump_12 : decode cX0_jump 12 = .ok (.astore_n 3, 1) := dk_78 (dk_at dksX0_jump_0 12 rfl rfl)
theorem dX0_jump_13 : decode cX0_jump 13 = .ok (.iconst 1, 1) := dk_4 (dk_at dksX0_jump_0 13 rfl rfl)
theorem dX0_jump_14 : decode cX0_jump 14 = .ok (.ireturn, 1) := dk_172 (dk_at dksX0_jump_0 14 rfl rfl)
theorem dX0_jump_15 : decode cX0_jump 15 = .ok (.iconst 0, 1) := dk_3 (dk_at dksX0_jump_0 15 rfl rfl)
theorem dX0_jump_16 : decode cX0_jump 16 = .ok (.ireturn, 1) := dk_172 (dk_at dksX0_jump_0 16 rfl rfl)
abbrev cX0_follow : ByteArray := method_46_code
def yX0_follow : MethodName := ⟨RX0, "follow", "(LFoldLister;[J)I"⟩
def dkwX0_follow_0 : List UInt8 := [43, 3, 42, 182, 0, 149, 133, 80, 167, 0, 6, 77, 4, 172, 3, 172]
abbrev dktX0_follow_0 : List UInt8 := dkwX0_follow_0 ++ []
theorem dksX0_follow_0 : cX0_follow.data.toList.drop 0 = dktX0_follow_0 := by decide +kernel
theorem dX0_follow_0 : decode cX0_follow 0 = .ok (.aload_n 1, 1) := dk_43 (dk_at dksX0_follow_0 0 rfl rfl)
theorem dX0_follow_1 : decode cX0_follow 1 = .ok (.iconst 0, 1) := dk_3 (dk_at dksX0_follow_0 1 rfl rfl)
theorem dX0_follow_2 : decode cX0_follow 2 = .ok (.aload_n 0, 1) := dk_42 (dk_at dksX0_follow_0 2 rfl rfl)
theorem dX0_follow_3 : decode cX0_follow 3 = .ok (.invokevirtual 149, 3) := dk_182 0 149 (dk_at dksX0_follow_0 3 rfl rfl)
theorem dX0_follow_6 : decode cX0_follow 6 = .ok (.i2l, 1) := dk_133 (dk_at dksX0_follow_0 6 rfl rfl)
theorem dX0_follow_7 : decode cX0_follow 7 = .ok (.lastore, 1) := dk_80 (dk_at dksX0_follow_0 7 rfl rfl)
theorem dX0_follow_8 : decode cX0_follow 8 = .ok (.goto 6, 3) := dk_167 0 6 (dk_at dksX0_follow_0 8 rfl rfl)
theorem dX0_follow_11 : decode cX0_follow 11 = .ok (.astore_n 2, 1) := dk_77 (dk_at dksX0_follow_0 11 rfl rfl)
theorem dX0_follow_12 : decode cX0_follow 12 = .ok (.iconst 1, 1) := dk_4 (dk_at dksX0_follow_0 12 rfl rfl)
theorem dX0_follow_13 : decode cX0_follow 13 = .ok (.ireturn, 1) := dk_172 (dk_at dksX0_follow_0 13 rfl rfl)
theorem dX0_follow_14 : decode cX0_follow 14 = .ok (.iconst 0, 1) := dk_3 (dk_at dksX0_follow_0 14 rfl rfl)
theorem dX0_follow_15 : decode cX0_follow 15 = .ok (.ireturn, 1) := dk_172 (dk_at dksX0_follow_0 15 rfl rfl)
abbrev cX0_back : ByteArray := method_47_code
def yX0_back : MethodName := ⟨RX0, "back", "(LFoldLister;[J)I"⟩
def dkwX0_back_0 : List UInt8 := [43, 3, 42, 182, 0, 153, 133, 80, 167, 0, 6, 77, 4, 172, 3, 172]
abbrev dktX0_back_0 : List UInt8 := dkwX0_back_0 ++ []
theorem dksX0_back_0 : cX0_back.data.toList.drop 0 = dktX0_back_0 := by decide +kernel
theorem dX0_back_0 : decode cX0_back 0 = .ok (.aload_n 1, 1) := dk_43 (dk_at dksX0_back_0 0 rfl rfl)
theorem dX0_back_1 : decode cX0_back 1 = .ok (.iconst 0, 1) := dk_3 (dk_at dksX0_back_0 1 rfl rfl)
theorem dX0_back_2 : decode cX0_back 2 = .ok (.aload_n 0, 1) := dk_42 (dk_at dksX0_back_0 2 rfl rfl)
theorem dX0_back_3 : decode cX0_back 3 = .ok (.invokevirtual 153, 3) := dk_182 0 153 (dk_at dksX0_back_0 3 rfl rfl)
theorem dX0_back_6 : decode cX0_back 6 = .ok (.i2l, 1) := dk_133 (dk_at dksX0_back_0 6 rfl rfl)
theorem dX0_back_7 : decode cX0_back 7 = .ok (.lastore, 1) := dk_80 (dk_at dksX0_back_0 7 rfl rfl)
theorem dX0_back_8 : decode cX0_back 8 = .ok (.goto 6, 3) := dk_167 0 6 (dk_at dksX0_back_0 8 rfl rfl)
theorem dX0_back_11 : decode cX0_back 11 = .ok (.astore_n 2, 1) := dk_77 (dk_at dksX0_back_0 11 rfl rfl)
theorem dX0_back_12 : decode cX0_back 12 = .ok (.iconst 1, 1) := dk_4 (dk_at dksX0_back_0 12 rfl rfl)
theorem dX0_back_13 : decode cX0_back 13 = .ok (.ireturn, 1) := dk_172 (dk_at dksX0_back_0 13 rfl rfl)
theorem dX0_back_14 : decode cX0_back 14 = .ok (.iconst 0, 1) := dk_3 (dk_at dksX0_back_0 14 rfl rfl)
theorem dX0_back_15 : decode cX0_back 15 = .ok (.ireturn, 1) := dk_172 (dk_at dksX0_back_0 15 rfl rfl)
abbrev cX0_forward : ByteArray := method_48_code
def yX0_forward : MethodName := ⟨RX0, "forward", "(LFoldLister;[J)I"⟩
def dkwX0_forward_0 : List UInt8 := [43, 3, 42, 182, 0, 156, 133, 80, 167, 0, 6, 77, 4, 172, 3, 172]
abbrev dktX0_forward_0 : List UInt8 := dkwX0_forward_0 ++ []
theorem dksX0_forward_0 : cX0_forward.data.toList.drop 0 = dktX0_forward_0 := by decide +kernel
theorem dX0_forward_0 : decode cX0_forward 0 = .ok (.aload_n 1, 1) := dk_43 (dk_at dksX0_forward_0 0 rfl rfl)
theorem dX0_forward_1 : decode cX0_forward 1 = .ok (.iconst 0, 1) := dk_3 (dk_at dksX0_forward_0 1 rfl rfl)
theorem dX0_forward_2 : decode cX0_forward 2 = .ok (.aload_n 0, 1) := dk_42 (dk_at dksX0_forward_0 2 rfl rfl)
theorem dX0_forward_3 : decode cX0_forward 3 = .ok (.invokevirtual 156, 3) := dk_182 0 156 (dk_at dksX0_forward_0 3 rfl rfl)
theorem dX0_forward_6 : decode cX0_forward 6 = .ok (.i2l, 1) := dk_133 (dk_at dksX0_forward_0 6 rfl rfl)
theorem dX0_forward_7 : decode cX0_forward 7 = .ok (.lastore, 1) := dk_80 (dk_at dksX0_forward_0 7 rfl rfl)
theorem dX0_forward_8 : decode cX0_forward 8 = .ok (.goto 6, 3) := dk_167 0 6 (dk_at dksX0_forward_0 8 rfl rfl)
theorem dX0_forward_11 : decode cX0_forward 11 = .ok (.astore_n 2, 1) := dk_77 (dk_at dksX0_forward_0 11 rfl rfl)
theorem dX0_forward_12 : decode cX0_forward 12 = .ok (.iconst 1, 1) := dk_4 (dk_at dksX0_forward_0 12 rfl rfl)
theorem dX0_forward_13 : decode cX0_forward 13 = .ok (.ireturn, 1) := dk_172 (dk_at dksX0_forward_0 13 rfl rfl)
theorem dX0_forward_14 : decode cX0_forward 14 = .ok (.iconst 0, 1) := dk_3 (dk_at dksX0_forward_0 14 rfl rfl)
theorem dX0_forward_15 : decode cX0_forward 15 = .ok (.ireturn, 1) := dk_172 (dk_at dksX0_forward_0 15 rfl rfl)
abbrev cX0_undo : ByteArray := method_49_code
def yX0_undo : MethodName := ⟨RX0, "undo", "(LFoldLister;[J)I"⟩
def dkwX0_undo_0 : List UInt8 := [43, 3, 42, 182, 0, 159, 133, 80, 167, 0, 6, 77, 4, 172, 3, 172]
abbrev dktX0_undo_0 : List UInt8 := dkwX0_undo_0 ++ []
theorem dksX0_undo_0 : cX0_undo.data.toList.drop 0 = dktX0_undo_0 := by decide +kernel
theorem dX0_undo_0 : decode cX0_undo 0 = .ok (.aload_n 1, 1) := dk_43 (dk_at dksX0_undo_0 0 rfl rfl)
theorem dX0_undo_1 : decode cX0_undo 1 = .ok (.iconst 0, 1) := dk_3 (dk_at dksX0_undo_0 1 rfl rfl)
theorem dX0_undo_2 : decode cX0_undo 2 = .ok (.aload_n 0, 1) := dk_42 (dk_at dksX0_undo_0 2 rfl rfl)
theorem dX0_undo_3 : decode cX0_undo 3 = .ok (.invokevirtual 159, 3) := dk_182 0 159 (dk_at dksX0_undo_0 3 rfl rfl)
theorem dX0_undo_6 : decode cX0_undo 6 = .ok (.i2l, 1) := dk_133 (dk_at dksX0_undo_0 6 rfl rfl)
theorem dX0_undo_7 : decode cX0_undo 7 = .ok (.lastore, 1) := dk_80 (dk_at dksX0_undo_0 7 rfl rfl)
theorem dX0_undo_8 : decode cX0_undo 8 = .ok (.goto 6, 3) := dk_167 0 6 (dk_at dksX0_undo_0 8 rfl rfl)
theorem dX0_undo_11 : decode cX0_undo 11 = .ok (.astore_n 2, 1) := dk_77 (dk_at dksX0_undo_0 11 rfl rfl)
theorem dX0_undo_12 : decode cX0_undo 12 = .ok (.iconst 1, 1) := dk_4 (dk_at dksX0_undo_0 12 rfl rfl)
theorem dX0_undo_13 : decode cX0_undo 13 = .ok (.ireturn, 1) := dk_172 (dk_at dksX0_undo_0 13 rfl rfl)
theorem dX0_undo_14 : decode cX0_undo 14 = .ok (.iconst 0, 1) := dk_3 (dk_at dksX0_undo_0 14 rfl rfl)
theorem dX0_undo_15 : decode cX0_undo 15 = .ok (.ireturn, 1) := dk_172 (dk_at dksX0_undo_0 15 rfl rfl)
abbrev cX0_save : ByteArray := method_50_code
def yX0_save : MethodName := ⟨RX0, "save", "(LFoldLister;I[J)I"⟩
def dkwX0_save_0 : List UInt8 := [44, 3, 42, 27, 182, 0, 164, 133, 80, 167, 0, 6, 78, 4, 172, 3, 172]
abbrev dktX0_save_0 : List UInt8 := dkwX0_save_0 ++ []
theorem dksX0_save_0 : cX0_save.data.toList.drop 0 = dktX0_save_0 := by decide +kernel
theorem dX0_save_0 : decode cX0_save 0 = .ok (.aload_n 2, 1) := dk_44 (dk_at dksX0_save_0 0 rfl rfl)
theorem dX0_save_1 : decode cX0_save 1 = .ok (.iconst 0, 1) := dk_3 (dk_at dksX0_save_0 1 rfl rfl)
theorem dX0_save_2 : decode cX0_save 2 = .ok (.aload_n 0, 1) := dk_42 (dk_at dksX0_save_0 2 rfl rfl)
theorem dX0_save_3 : decode cX0_save 3 = .ok (.iload_n 1, 1) := dk_27 (dk_at dksX0_save_0 3 rfl rfl)
theorem dX0_save_4 : decode cX0_save 4 = .ok (.invokevirtual 164, 3) := dk_182 0 164 (dk_at dksX0_save_0 4 rfl rfl)
theorem dX0_save_7 : decode cX0_save 7 = .ok (.i2l, 1) := dk_133 (dk_at dksX0_save_0 7 rfl rfl)
theorem dX0_save_8 : decode cX0_save 8 = .ok (.lastore, 1) := dk_80 (dk_at dksX0_save_0 8 rfl rfl)
theorem dX0_save_9 : decode cX0_save 9 = .ok (.goto 6, 3) := dk_167 0 6 (dk_at dksX0_save_0 9 rfl rfl)
theorem dX0_save_12 : decode cX0_save 12 = .ok (.astore_n 3, 1) := dk_78 (dk_at dksX0_save_0 12 rfl rfl)
theorem dX0_save_13 : decode cX0_save 13 = .ok (.iconst 1, 1) := dk_4 (dk_at dksX0_save_0 13 rfl rfl)
theorem dX0_save_14 : decode cX0_save 14 = .ok (.ireturn, 1) := dk_172 (dk_at dksX0_save_0 14 rfl rfl)
theorem dX0_save_15 : decode cX0_save 15 = .ok (.iconst 0, 1) := dk_3 (dk_at dksX0_save_0 15 rfl rfl)
theorem dX0_save_16 : decode cX0_save 16 = .ok (.ireturn, 1) := dk_172 (dk_at dksX0_save_0 16 rfl rfl)
abbrev cX0_restore : ByteArray := method_51_code
def yX0_restore : MethodName := ⟨RX0, "restore", "(LFoldLister;I[J)I"⟩
def dkwX0_restore_0 : List UInt8 := [44, 3, 42, 27, 182, 0, 167, 133, 80, 167, 0, 9, 78, 4, 172, 78, 5, 172, 3, 172]
abbrev dktX0_restore_0 : List UInt8 := dkwX0_restore_0 ++ []
theorem dksX0_restore_0 : cX0_restore.data.toList.drop 0 = dktX0_restore_0 := by decide +kernel
theorem dX0_restore_0 : decode cX0_restore 0 = .ok (.aload_n 2, 1) := dk_44 (dk_at dksX0_restore_0 0 rfl rfl)
theorem dX0_restore_1 : decode cX0_restore 1 = .ok (.iconst 0, 1) := dk_3 (dk_at dksX0_restore_0 1 rfl rfl)
theorem dX0_restore_2 : decode cX0_restore 2 = .ok (.aload_n 0, 1) := dk_42 (dk_at dksX0_restore_0 2 rfl rfl)
theorem dX0_restore_3 : decode cX0_restore 3 = .ok (.iload_n 1, 1) := dk_27 (dk_at dksX0_restore_0 3 rfl rfl)
theorem dX0_restore_4 : decode cX0_restore 4 = .ok (.invokevirtual 167, 3) := dk_182 0 167 (dk_at dksX0_restore_0 4 rfl rfl)
theorem dX0_restore_7 : decode cX0_restore 7 = .ok (.i2l, 1) := dk_133 (dk_at dksX0_restore_0 7 rfl rfl)
theorem dX0_restore_8 : decode cX0_restore 8 = .ok (.lastore, 1) := dk_80 (dk_at dksX0_restore_0 8 rfl rfl)
theorem dX0_restore_9 : decode cX0_restore 9 = .ok (.goto 9, 3) := dk_167 0 9 (dk_at dksX0_restore_0 9 rfl rfl)
theorem dX0_restore_12 : decode cX0_restore 12 = .ok (.astore_n 3, 1) := dk_78 (dk_at dksX0_restore_0 12 rfl rfl)
theorem dX0_restore_13 : decode cX0_restore 13 = .ok (.iconst 1, 1) := dk_4 (dk_at dksX0_restore_0 13 rfl rfl)
theorem dX0_restore_14 : decode cX0_restore 14 = .ok (.ireturn, 1) := dk_172 (dk_at dksX0_restore_0 14 rfl rfl)
theorem dX0_restore_15 : decode cX0_restore 15 = .ok (.astore_n 3, 1) := dk_78 (dk_at dksX0_restore_0 15 rfl rfl)
theorem dX0_restore_16 : decode cX0_restore 16 = .ok (.iconst 2, 1) := dk_5 (dk_at dksX0_restore_0 16 rfl rfl)
theorem dX0_restore_17 : decode cX0_restore 17 = .ok (.ireturn, 1) := dk_172 (dk_at dksX0_restore_0 17 rfl rfl)
theorem dX0_restore_18 : decode cX0_restore 18 = .ok (.iconst 0, 1) := dk_3 (dk_at dksX0_restore_0 18 rfl rfl)
theorem dX0_restore_19 : decode cX0_restore 19 = .ok (.ireturn, 1) := dk_172 (dk_at dksX0_restore_0 19 rfl rfl)
theorem q103 : (Jvm.Cond.initialized "FoldListerLaw") ∈ lw_all := lw_g (lw_at lw_m1 0 rfl) rfl
theorem q162 : (Jvm.Cond.classLink "FoldListerLaw" (8 : Nat) "FoldLister") ∈ lw_all := lw_g (lw_at lw_m1 59 rfl) rfl
theorem q164 : (Jvm.Cond.methodLink "FoldListerLaw" (170 : Nat) ({ cls := "FoldLister", name := "<init>", desc := "()V" } : Jvm.MethodName)) ∈ lw_all := lw_g (lw_at lw_m1 61 rfl) rfl
theorem q346 : (Jvm.Cond.methodLink "FoldListerLaw" (174 : Nat) ({ cls := "FoldLister", name := "append", desc := "(IIIII)I" } : Jvm.MethodName)) ∈ lw_all := lw_g (lw_at lw_m2 3 rfl) rfl
theorem q350 : (Jvm.Cond.methodLink "FoldListerLaw" (188 : Nat) ({ cls := "FoldLister", name := "parseError", desc := "()I" } : Jvm.MethodName)) ∈ lw_all := lw_g (lw_at lw_m2 7 rfl) rfl
theorem q354 : (Jvm.Cond.methodLink "FoldListerLaw" (192 : Nat) ({ cls := "FoldLister", name := "errorPosition", desc := "()I" } : Jvm.MethodName)) ∈ lw_all := lw_g (lw_at lw_m2 11 rfl) rfl
theorem q358 : (Jvm.Cond.methodLink "FoldListerLaw" (196 : Nat) ({ cls := "FoldLister", name := "buffered", desc := "()I" } : Jvm.MethodName)) ∈ lw_all := lw_g (lw_at lw_m2 15 rfl) rfl
theorem q362 : (Jvm.Cond.methodLink "FoldListerLaw" (210 : Nat) ({ cls := "FoldLister", name := "lineOfKey", desc := "(I)I" } : Jvm.MethodName)) ∈ lw_all := lw_g (lw_at lw_m2 19 rfl) rfl
theorem q736 : (Jvm.Cond.methodLink "FoldListerLaw" (223 : Nat) ({ cls := "FoldLister", name := "widest", desc := "()I" } : Jvm.MethodName)) ∈ lw_all := lw_g (lw_at lw_m3 153 rfl) rfl
theorem q1504 : (Jvm.Cond.methodLink "FoldListerLaw" (231 : Nat) ({ cls := "FoldLister", name := "meanLength", desc := "()D" } : Jvm.MethodName)) ∈ lw_all := lw_g (lw_at lw_m6 201 rfl) rfl
theorem q1515 : (Jvm.Cond.methodLink "FoldListerLaw" (236 : Nat) ({ cls := "FoldLister", name := "shownShare", desc := "()F" } : Jvm.MethodName)) ∈ lw_all := lw_g (lw_at lw_m6 212 rfl) rfl
theorem q1533 : (Jvm.Cond.methodLink "FoldListerLaw" (256 : Nat) ({ cls := "FoldLister", name := "deepest", desc := "()I" } : Jvm.MethodName)) ∈ lw_all := lw_g (lw_at lw_m6 230 rfl) rfl
theorem q1537 : (Jvm.Cond.methodLink "FoldListerLaw" (285 : Nat) ({ cls := "FoldLister", name := "cursor", desc := "()I" } : Jvm.MethodName)) ∈ lw_all := lw_g (lw_at lw_m6 234 rfl) rfl
theorem q1541 : (Jvm.Cond.methodLink "FoldListerLaw" (299 : Nat) ({ cls := "FoldLister", name := "opensForMarked", desc := "()I" } : Jvm.MethodName)) ∈ lw_all := lw_g (lw_at lw_m6 238 rfl) rfl
theorem q1575 : (Jvm.Cond.methodLink "FoldListerLaw" (303 : Nat) ({ cls := "FoldLister", name := "bestClose", desc := "()I" } : Jvm.MethodName)) ∈ lw_all := lw_g (lw_at lw_m7 32 rfl) rfl
theorem q1600 : (Jvm.Cond.methodLink "FoldListerLaw" (319 : Nat) ({ cls := "FoldLister", name := "writeOutline", desc := "()I" } : Jvm.MethodName)) ∈ lw_all := lw_g (lw_at lw_m7 57 rfl) rfl
theorem q1688 : (Jvm.Cond.methodLink "FoldListerLaw" (360 : Nat) ({ cls := "FoldLister", name := "openAll", desc := "()I" } : Jvm.MethodName)) ∈ lw_all := lw_g (lw_at lw_m7 145 rfl) rfl
theorem q1839 : (Jvm.Cond.methodLink "FoldListerLaw" (386 : Nat) ({ cls := "FoldLister", name := "undoable", desc := "()I" } : Jvm.MethodName)) ∈ lw_all := lw_g (lw_at lw_m8 56 rfl) rfl
theorem q1843 : (Jvm.Cond.methodLink "FoldListerLaw" (179 : Nat) ({ cls := "FoldListerLaw", name := "load", desc := "(LFoldLister;I[J)I" } : Jvm.MethodName)) ∈ lw_all := lw_g (lw_at lw_m8 60 rfl) rfl
theorem q1844 : (Jvm.Cond.static ({ cls := "FoldListerLaw", name := "load", desc := "(LFoldLister;I[J)I" } : Jvm.MethodName)) ∈ lw_all := lw_g (lw_at lw_m8 61 rfl) rfl
theorem q1845 : (Jvm.Cond.codeWith ({ cls := "FoldListerLaw", name := "load", desc := "(LFoldLister;I[J)I" } : Jvm.MethodName) method_3_code (4 : Nat) (Option.some Jvm.ClassFile.FieldType.int) [((0 : Nat), (9 : Nat), (12 : Nat), (13 : Nat)), ((0 : Nat), (9 : Nat), (15 : Nat), (15 : Nat))]) ∈ lw_all := lw_g (lw_at lw_m8 62 rfl) rfl
theorem q1846 : (Jvm.Cond.classLink "FoldListerLaw" (13 : Nat) "java/lang/IndexOutOfBoundsException") ∈ lw_all := lw_g (lw_at lw_m8 63 rfl) rfl
theorem q1849 : (Jvm.Cond.classLink "FoldListerLaw" (15 : Nat) "java/lang/IllegalArgumentException") ∈ lw_all := lw_g (lw_at lw_m8 66 rfl) rfl
theorem q1850 : (Jvm.Cond.methodLink "FoldListerLaw" (7 : Nat) ({ cls := "FoldLister", name := "load", desc := "(I)I" } : Jvm.MethodName)) ∈ lw_all := lw_g (lw_at lw_m8 67 rfl) rfl
theorem q2029 : (Jvm.Cond.methodLink "FoldListerLaw" (200 : Nat) ({ cls := "FoldListerLaw", name := "count", desc := "(LFoldLister;I[J)I" } : Jvm.MethodName)) ∈ lw_all := lw_g (lw_at lw_m9 6 rfl) rfl
theorem q2030 : (Jvm.Cond.static ({ cls := "FoldListerLaw", name := "count", desc := "(LFoldLister;I[J)I" } : Jvm.MethodName)) ∈ lw_all := lw_g (lw_at lw_m9 7 rfl) rfl
theorem q2031 : (Jvm.Cond.codeWith ({ cls := "FoldListerLaw", name := "count", desc := "(LFoldLister;I[J)I" } : Jvm.MethodName) method_4_code (4 : Nat) (Option.some Jvm.ClassFile.FieldType.int) [((0 : Nat), (9 : Nat), (12 : Nat), (15 : Nat))]) ∈ lw_all := lw_g (lw_at lw_m9 8 rfl) rfl
theorem q2032 : (Jvm.Cond.methodLink "FoldListerLaw" (17 : Nat) ({ cls := "FoldLister", name := "count", desc := "(I)I" } : Jvm.MethodName)) ∈ lw_all := lw_g (lw_at lw_m9 9 rfl) rfl
theorem q2141 : (Jvm.Cond.methodLink "FoldListerLaw" (203 : Nat) ({ cls := "FoldListerLaw", name := "line", desc := "(LFoldLister;II[J)I" } : Jvm.MethodName)) ∈ lw_all := lw_g (lw_at lw_m9 118 rfl) rfl
theorem q2142 : (Jvm.Cond.static ({ cls := "FoldListerLaw", name := "line", desc := "(LFoldLister;II[J)I" } : Jvm.MethodName)) ∈ lw_all := lw_g (lw_at lw_m9 119 rfl) rfl
theorem q2143 : (Jvm.Cond.codeWith ({ cls := "FoldListerLaw", name := "line", desc := "(LFoldLister;II[J)I" } : Jvm.MethodName) method_5_code (5 : Nat) (Option.some Jvm.ClassFile.FieldType.int) [((0 : Nat), (10 : Nat), (13 : Nat), (13 : Nat)), ((0 : Nat), (10 : Nat), (17 : Nat), (15 : Nat))]) ∈ lw_all := lw_g (lw_at lw_m9 120 rfl) rfl
theorem q2144 : (Jvm.Cond.methodLink "FoldListerLaw" (20 : Nat) ({ cls := "FoldLister", name := "line", desc := "(II)I" } : Jvm.MethodName)) ∈ lw_all := lw_g (lw_at lw_m9 121 rfl) rfl
theorem q2174 : (Jvm.Cond.methodLink "FoldListerLaw" (207 : Nat) ({ cls := "FoldListerLaw", name := "byteOf", desc := "(LFoldLister;II[J)I" } : Jvm.MethodName)) ∈ lw_all := lw_g (lw_at lw_m9 151 rfl) rfl
theorem q2175 : (Jvm.Cond.static ({ cls := "FoldListerLaw", name := "byteOf", desc := "(LFoldLister;II[J)I" } : Jvm.MethodName)) ∈ lw_all := lw_g (lw_at lw_m9 152 rfl) rfl
theorem q2176 : (Jvm.Cond.codeWith ({ cls := "FoldListerLaw", name := "byteOf", desc := "(LFoldLister;II[J)I" } : Jvm.MethodName) method_6_code (5 : Nat) (Option.some Jvm.ClassFile.FieldType.int) [((0 : Nat), (10 : Nat), (13 : Nat), (13 : Nat))]) ∈ lw_all := lw_g (lw_at lw_m9 153 rfl) rfl
theorem q2177 : (Jvm.Cond.methodLink "FoldListerLaw" (24 : Nat) ({ cls := "FoldLister", name := "byteOf", desc := "(II)I" } : Jvm.MethodName)) ∈ lw_all := lw_g (lw_at lw_m9 154 rfl) rfl
theorem q2182 : (Jvm.Cond.methodLink "FoldListerLaw" (214 : Nat) ({ cls := "FoldListerLaw", name := "lineOfRow", desc := "(LFoldLister;I[J)I" } : Jvm.MethodName)) ∈ lw_all := lw_g (lw_at lw_m9 159 rfl) rfl
theorem q2183 : (Jvm.Cond.static ({ cls := "FoldListerLaw", name := "lineOfRow", desc := "(LFoldLister;I[J)I" } : Jvm.MethodName)) ∈ lw_all := lw_g (lw_at lw_m9 160 rfl) rfl
theorem q2184 : (Jvm.Cond.codeWith ({ cls := "FoldListerLaw", name := "lineOfRow", desc := "(LFoldLister;I[J)I" } : Jvm.MethodName) method_7_code (4 : Nat) (Option.some Jvm.ClassFile.FieldType.int) [((0 : Nat), (9 : Nat), (12 : Nat), (13 : Nat))]) ∈ lw_all := lw_g (lw_at lw_m9 161 rfl) rfl
theorem q2185 : (Jvm.Cond.methodLink "FoldListerLaw" (27 : Nat) ({ cls := "FoldLister", name := "lineOfRow", desc := "(I)I" } : Jvm.MethodName)) ∈ lw_all := lw_g (lw_at lw_m9 162 rfl) rfl
theorem q2193 : (Jvm.Cond.methodLink "FoldListerLaw" (217 : Nat) ({ cls := "FoldListerLaw", name := "rowNear", desc := "(LFoldLister;I[J)I" } : Jvm.MethodName)) ∈ lw_all := lw_g (lw_at lw_m9 170 rfl) rfl
theorem q2194 : (Jvm.Cond.static ({ cls := "FoldListerLaw", name := "rowNear", desc := "(LFoldLister;I[J)I" } : Jvm.MethodName)) ∈ lw_all := lw_g (lw_at lw_m9 171 rfl) rfl
theorem q2195 : (Jvm.Cond.codeWith ({ cls := "FoldListerLaw", name := "rowNear", desc := "(LFoldLister;I[J)I" } : Jvm.MethodName) method_8_code (4 : Nat) (Option.some Jvm.ClassFile.FieldType.int) [((0 : Nat), (9 : Nat), (12 : Nat), (13 : Nat))]) ∈ lw_all := lw_g (lw_at lw_m9 172 rfl) rfl
theorem q2196 : (Jvm.Cond.methodLink "FoldListerLaw" (30 : Nat) ({ cls := "FoldLister", name := "rowNear", desc := "(I)I" } : Jvm.MethodName)) ∈ lw_all := lw_g (lw_at lw_m9 173 rfl) rfl
theorem q2200 : (Jvm.Cond.methodLink "FoldListerLaw" (220 : Nat) ({ cls := "FoldListerLaw", name := "rowsBetween", desc := "(LFoldLister;II[J)I" } : Jvm.MethodName)) ∈ lw_all := lw_g (lw_at lw_m9 177 rfl) rfl
theorem q2201 : (Jvm.Cond.static ({ cls := "FoldListerLaw", name := "rowsBetween", desc := "(LFoldLister;II[J)I" } : Jvm.MethodName)) ∈ lw_all := lw_g (lw_at lw_m9 178 rfl) rfl
theorem q2202 : (Jvm.Cond.codeWith ({ cls := "FoldListerLaw", name := "rowsBetween", desc := "(LFoldLister;II[J)I" } : Jvm.MethodName) method_9_code (5 : Nat) (Option.some Jvm.ClassFile.FieldType.int) [((0 : Nat), (10 : Nat), (13 : Nat), (13 : Nat))]) ∈ lw_all := lw_g (lw_at lw_m9 179 rfl) rfl
theorem q2203 : (Jvm.Cond.methodLink "FoldListerLaw" (33 : Nat) ({ cls := "FoldLister", name := "rowsBetween", desc := "(II)I" } : Jvm.MethodName)) ∈ lw_all := lw_g (lw_at lw_m9 180 rfl) rfl
theorem q2209 : (Jvm.Cond.methodLink "FoldListerLaw" (227 : Nat) ({ cls := "FoldListerLaw", name := "seek", desc := "(LFoldLister;IIZ[J)I" } : Jvm.MethodName)) ∈ lw_all := lw_g (lw_at lw_m9 186 rfl) rfl
theorem q2210 : (Jvm.Cond.static ({ cls := "FoldListerLaw", name := "seek", desc := "(LFoldLister;IIZ[J)I" } : Jvm.MethodName)) ∈ lw_all := lw_g (lw_at lw_m9 187 rfl) rfl
theorem q2211 : (Jvm.Cond.codeWith ({ cls := "FoldListerLaw", name := "seek", desc := "(LFoldLister;IIZ[J)I" } : Jvm.MethodName) method_10_code (6 : Nat) (Option.some Jvm.ClassFile.FieldType.int) [((0 : Nat), (12 : Nat), (15 : Nat), (13 : Nat))]) ∈ lw_all := lw_g (lw_at lw_m9 188 rfl) rfl
theorem q2212 : (Jvm.Cond.methodLink "FoldListerLaw" (36 : Nat) ({ cls := "FoldLister", name := "seek", desc := "(IIZ)I" } : Jvm.MethodName)) ∈ lw_all := lw_g (lw_at lw_m9 189 rfl) rfl
theorem q2371 : (Jvm.Cond.methodLink "FoldListerLaw" (241 : Nat) ({ cls := "FoldListerLaw", name := "region", desc := "(LFoldLister;II[J)I" } : Jvm.MethodName)) ∈ lw_all := lw_g (lw_at lw_m10 108 rfl) rfl
theorem q2372 : (Jvm.Cond.static ({ cls := "FoldListerLaw", name := "region", desc := "(LFoldLister;II[J)I" } : Jvm.MethodName)) ∈ lw_all := lw_g (lw_at lw_m10 109 rfl) rfl
theorem q2373 : (Jvm.Cond.codeWith ({ cls := "FoldListerLaw", name := "region", desc := "(LFoldLister;II[J)I" } : Jvm.MethodName) method_11_code (5 : Nat) (Option.some Jvm.ClassFile.FieldType.int) [((0 : Nat), (10 : Nat), (13 : Nat), (13 : Nat)), ((0 : Nat), (10 : Nat), (17 : Nat), (15 : Nat))]) ∈ lw_all := lw_g (lw_at lw_m10 110 rfl) rfl
theorem q2374 : (Jvm.Cond.methodLink "FoldListerLaw" (40 : Nat) ({ cls := "FoldLister", name := "region", desc := "(II)I" } : Jvm.MethodName)) ∈ lw_all := lw_g (lw_at lw_m10 111 rfl) rfl
theorem q2387 : (Jvm.Cond.methodLink "FoldListerLaw" (244 : Nat) ({ cls := "FoldListerLaw", name := "regionAt", desc := "(LFoldLister;I[J)I" } : Jvm.MethodName)) ∈ lw_all := lw_g (lw_at lw_m10 124 rfl) rfl
theorem q2388 : (Jvm.Cond.static ({ cls := "FoldListerLaw", name := "regionAt", desc := "(LFoldLister;I[J)I" } : Jvm.MethodName)) ∈ lw_all := lw_g (lw_at lw_m10 125 rfl) rfl
theorem q2389 : (Jvm.Cond.codeWith ({ cls := "FoldListerLaw", name := "regionAt", desc := "(LFoldLister;I[J)I" } : Jvm.MethodName) method_12_code (4 : Nat) (Option.some Jvm.ClassFile.FieldType.int) [((0 : Nat), (9 : Nat), (12 : Nat), (13 : Nat))]) ∈ lw_all := lw_g (lw_at lw_m10 126 rfl) rfl
theorem q2390 : (Jvm.Cond.methodLink "FoldListerLaw" (43 : Nat) ({ cls := "FoldLister", name := "regionAt", desc := "(I)I" } : Jvm.MethodName)) ∈ lw_all := lw_g (lw_at lw_m10 127 rfl) rfl
theorem q2398 : (Jvm.Cond.methodLink "FoldListerLaw" (247 : Nat) ({ cls := "FoldListerLaw", name := "hiddenBy", desc := "(LFoldLister;I[J)I" } : Jvm.MethodName)) ∈ lw_all := lw_g (lw_at lw_m10 135 rfl) rfl
theorem q2399 : (Jvm.Cond.static ({ cls := "FoldListerLaw", name := "hiddenBy", desc := "(LFoldLister;I[J)I" } : Jvm.MethodName)) ∈ lw_all := lw_g (lw_at lw_m10 136 rfl) rfl
theorem q2400 : (Jvm.Cond.codeWith ({ cls := "FoldListerLaw", name := "hiddenBy", desc := "(LFoldLister;I[J)I" } : Jvm.MethodName) method_13_code (4 : Nat) (Option.some Jvm.ClassFile.FieldType.int) [((0 : Nat), (9 : Nat), (12 : Nat), (13 : Nat))]) ∈ lw_all := lw_g (lw_at lw_m10 137 rfl) rfl
theorem q2401 : (Jvm.Cond.methodLink "FoldListerLaw" (46 : Nat) ({ cls := "FoldLister", name := "hiddenBy", desc := "(I)I" } : Jvm.MethodName)) ∈ lw_all := lw_g (lw_at lw_m10 138 rfl) rfl
theorem q2409 : (Jvm.Cond.methodLink "FoldListerLaw" (250 : Nat) ({ cls := "FoldListerLaw", name := "partner", desc := "(LFoldLister;II[J)I" } : Jvm.MethodName)) ∈ lw_all := lw_g (lw_at lw_m10 146 rfl) rfl
theorem q2410 : (Jvm.Cond.static ({ cls := "FoldListerLaw", name := "partner", desc := "(LFoldLister;II[J)I" } : Jvm.MethodName)) ∈ lw_all := lw_g (lw_at lw_m10 147 rfl) rfl
theorem q2411 : (Jvm.Cond.codeWith ({ cls := "FoldListerLaw", name := "partner", desc := "(LFoldLister;II[J)I" } : Jvm.MethodName) method_14_code (5 : Nat) (Option.some Jvm.ClassFile.FieldType.int) [((0 : Nat), (10 : Nat), (13 : Nat), (13 : Nat)), ((0 : Nat), (10 : Nat), (17 : Nat), (15 : Nat))]) ∈ lw_all := lw_g (lw_at lw_m10 148 rfl) rfl
theorem q2412 : (Jvm.Cond.methodLink "FoldListerLaw" (49 : Nat) ({ cls := "FoldLister", name := "partner", desc := "(II)I" } : Jvm.MethodName)) ∈ lw_all := lw_g (lw_at lw_m10 149 rfl) rfl
theorem q2427 : (Jvm.Cond.methodLink "FoldListerLaw" (253 : Nat) ({ cls := "FoldListerLaw", name := "loose", desc := "(LFoldLister;I[J)I" } : Jvm.MethodName)) ∈ lw_all := lw_g (lw_at lw_m10 164 rfl) rfl
theorem q2428 : (Jvm.Cond.static ({ cls := "FoldListerLaw", name := "loose", desc := "(LFoldLister;I[J)I" } : Jvm.MethodName)) ∈ lw_all := lw_g (lw_at lw_m10 165 rfl) rfl
theorem q2429 : (Jvm.Cond.codeWith ({ cls := "FoldListerLaw", name := "loose", desc := "(LFoldLister;I[J)I" } : Jvm.MethodName) method_15_code (4 : Nat) (Option.some Jvm.ClassFile.FieldType.int) [((0 : Nat), (9 : Nat), (12 : Nat), (13 : Nat))]) ∈ lw_all := lw_g (lw_at lw_m10 166 rfl) rfl
theorem q2430 : (Jvm.Cond.methodLink "FoldListerLaw" (52 : Nat) ({ cls := "FoldLister", name := "loose", desc := "(I)I" } : Jvm.MethodName)) ∈ lw_all := lw_g (lw_at lw_m10 167 rfl) rfl
theorem q2434 : (Jvm.Cond.methodLink "FoldListerLaw" (260 : Nat) ({ cls := "FoldListerLaw", name := "outline", desc := "(LFoldLister;II[J)I" } : Jvm.MethodName)) ∈ lw_all := lw_g (lw_at lw_m10 171 rfl) rfl
theorem q2435 : (Jvm.Cond.static ({ cls := "FoldListerLaw", name := "outline", desc := "(LFoldLister;II[J)I" } : Jvm.MethodName)) ∈ lw_all := lw_g (lw_at lw_m10 172 rfl) rfl
theorem q2436 : (Jvm.Cond.codeWith ({ cls := "FoldListerLaw", name := "outline", desc := "(LFoldLister;II[J)I" } : Jvm.MethodName) method_16_code (5 : Nat) (Option.some Jvm.ClassFile.FieldType.int) [((0 : Nat), (10 : Nat), (13 : Nat), (13 : Nat))]) ∈ lw_all := lw_g (lw_at lw_m10 173 rfl) rfl
theorem q2437 : (Jvm.Cond.methodLink "FoldListerLaw" (55 : Nat) ({ cls := "FoldLister", name := "outline", desc := "(II)I" } : Jvm.MethodName)) ∈ lw_all := lw_g (lw_at lw_m10 174 rfl) rfl
theorem q2441 : (Jvm.Cond.methodLink "FoldListerLaw" (263 : Nat) ({ cls := "FoldListerLaw", name := "marker", desc := "(LFoldLister;I[J)I" } : Jvm.MethodName)) ∈ lw_all := lw_g (lw_at lw_m10 178 rfl) rfl
theorem q2442 : (Jvm.Cond.static ({ cls := "FoldListerLaw", name := "marker", desc := "(LFoldLister;I[J)I" } : Jvm.MethodName)) ∈ lw_all := lw_g (lw_at lw_m10 179 rfl) rfl
theorem q2443 : (Jvm.Cond.codeWith ({ cls := "FoldListerLaw", name := "marker", desc := "(LFoldLister;I[J)I" } : Jvm.MethodName) method_17_code (4 : Nat) (Option.some Jvm.ClassFile.FieldType.int) [((0 : Nat), (9 : Nat), (12 : Nat), (13 : Nat))]) ∈ lw_all := lw_g (lw_at lw_m10 180 rfl) rfl
theorem q2444 : (Jvm.Cond.methodLink "FoldListerLaw" (58 : Nat) ({ cls := "FoldLister", name := "marker", desc := "(I)I" } : Jvm.MethodName)) ∈ lw_all := lw_g (lw_at lw_m10 181 rfl) rfl
theorem q2448 : (Jvm.Cond.methodLink "FoldListerLaw" (266 : Nat) ({ cls := "FoldListerLaw", name := "nextMarked", desc := "(LFoldLister;IZ[J)I" } : Jvm.MethodName)) ∈ lw_all := lw_g (lw_at lw_m10 185 rfl) rfl
theorem q2449 : (Jvm.Cond.static ({ cls := "FoldListerLaw", name := "nextMarked", desc := "(LFoldLister;IZ[J)I" } : Jvm.MethodName)) ∈ lw_all := lw_g (lw_at lw_m10 186 rfl) rfl
theorem q2450 : (Jvm.Cond.codeWith ({ cls := "FoldListerLaw", name := "nextMarked", desc := "(LFoldLister;IZ[J)I" } : Jvm.MethodName) method_18_code (5 : Nat) (Option.some Jvm.ClassFile.FieldType.int) [((0 : Nat), (10 : Nat), (13 : Nat), (13 : Nat))]) ∈ lw_all := lw_g (lw_at lw_m10 187 rfl) rfl
theorem q2451 : (Jvm.Cond.methodLink "FoldListerLaw" (61 : Nat) ({ cls := "FoldLister", name := "nextMarked", desc := "(IZ)I" } : Jvm.MethodName)) ∈ lw_all := lw_g (lw_at lw_m10 188 rfl) rfl
theorem q2458 : (Jvm.Cond.methodLink "FoldListerLaw" (270 : Nat) ({ cls := "FoldListerLaw", name := "labelled", desc := "(LFoldLister;I[J)I" } : Jvm.MethodName)) ∈ lw_all := lw_g (lw_at lw_m10 195 rfl) rfl
theorem q2459 : (Jvm.Cond.static ({ cls := "FoldListerLaw", name := "labelled", desc := "(LFoldLister;I[J)I" } : Jvm.MethodName)) ∈ lw_all := lw_g (lw_at lw_m10 196 rfl) rfl
theorem q2460 : (Jvm.Cond.codeWith ({ cls := "FoldListerLaw", name := "labelled", desc := "(LFoldLister;I[J)I" } : Jvm.MethodName) method_19_code (4 : Nat) (Option.some Jvm.ClassFile.FieldType.int) [((0 : Nat), (9 : Nat), (12 : Nat), (13 : Nat))]) ∈ lw_all := lw_g (lw_at lw_m10 197 rfl) rfl
theorem q2461 : (Jvm.Cond.methodLink "FoldListerLaw" (65 : Nat) ({ cls := "FoldLister", name := "labelled", desc := "(I)I" } : Jvm.MethodName)) ∈ lw_all := lw_g (lw_at lw_m10 198 rfl) rfl
theorem q2466 : (Jvm.Cond.methodLink "FoldListerLaw" (273 : Nat) ({ cls := "FoldListerLaw", name := "labelLength", desc := "(LFoldLister;I[J)I" } : Jvm.MethodName)) ∈ lw_all := lw_g (lw_at lw_m10 203 rfl) rfl
theorem q2467 : (Jvm.Cond.static ({ cls := "FoldListerLaw", name := "labelLength", desc := "(LFoldLister;I[J)I" } : Jvm.MethodName)) ∈ lw_all := lw_g (lw_at lw_m10 204 rfl) rfl
theorem q2468 : (Jvm.Cond.codeWith ({ cls := "FoldListerLaw", name := "labelLength", desc := "(LFoldLister;I[J)I" } : Jvm.MethodName) method_20_code (4 : Nat) (Option.some Jvm.ClassFile.FieldType.int) [((0 : Nat), (9 : Nat), (12 : Nat), (13 : Nat))]) ∈ lw_all := lw_g (lw_at lw_m10 205 rfl) rfl
theorem q2469 : (Jvm.Cond.methodLink "FoldListerLaw" (68 : Nat) ({ cls := "FoldLister", name := "labelLength", desc := "(I)I" } : Jvm.MethodName)) ∈ lw_all := lw_g (lw_at lw_m10 206 rfl) rfl
theorem q2474 : (Jvm.Cond.methodLink "FoldListerLaw" (276 : Nat) ({ cls := "FoldListerLaw", name := "target", desc := "(LFoldLister;I[J)I" } : Jvm.MethodName)) ∈ lw_all := lw_g (lw_at lw_m10 211 rfl) rfl
theorem q2475 : (Jvm.Cond.static ({ cls := "FoldListerLaw", name := "target", desc := "(LFoldLister;I[J)I" } : Jvm.MethodName)) ∈ lw_all := lw_g (lw_at lw_m10 212 rfl) rfl
theorem q2476 : (Jvm.Cond.codeWith ({ cls := "FoldListerLaw", name := "target", desc := "(LFoldLister;I[J)I" } : Jvm.MethodName) method_21_code (4 : Nat) (Option.some Jvm.ClassFile.FieldType.int) [((0 : Nat), (9 : Nat), (12 : Nat), (13 : Nat))]) ∈ lw_all := lw_g (lw_at lw_m10 213 rfl) rfl
theorem q2477 : (Jvm.Cond.methodLink "FoldListerLaw" (71 : Nat) ({ cls := "FoldLister", name := "target", desc := "(I)I" } : Jvm.MethodName)) ∈ lw_all := lw_g (lw_at lw_m10 214 rfl) rfl
theorem q2484 : (Jvm.Cond.methodLink "FoldListerLaw" (279 : Nat) ({ cls := "FoldListerLaw", name := "referrers", desc := "(LFoldLister;I[J)I" } : Jvm.MethodName)) ∈ lw_all := lw_g (lw_at lw_m10 221 rfl) rfl
theorem q2485 : (Jvm.Cond.static ({ cls := "FoldListerLaw", name := "referrers", desc := "(LFoldLister;I[J)I" } : Jvm.MethodName)) ∈ lw_all := lw_g (lw_at lw_m10 222 rfl) rfl
theorem q2486 : (Jvm.Cond.codeWith ({ cls := "FoldListerLaw", name := "referrers", desc := "(LFoldLister;I[J)I" } : Jvm.MethodName) method_22_code (4 : Nat) (Option.some Jvm.ClassFile.FieldType.int) [((0 : Nat), (9 : Nat), (12 : Nat), (13 : Nat))]) ∈ lw_all := lw_g (lw_at lw_m10 223 rfl) rfl
theorem q2487 : (Jvm.Cond.methodLink "FoldListerLaw" (74 : Nat) ({ cls := "FoldLister", name := "referrers", desc := "(I)I" } : Jvm.MethodName)) ∈ lw_all := lw_g (lw_at lw_m10 224 rfl) rfl
theorem q2504 : (Jvm.Cond.methodLink "FoldListerLaw" (282 : Nat) ({ cls := "FoldListerLaw", name := "referrer", desc := "(LFoldLister;II[J)I" } : Jvm.MethodName)) ∈ lw_all := lw_g (lw_at lw_m11 1 rfl) rfl
theorem q2505 : (Jvm.Cond.static ({ cls := "FoldListerLaw", name := "referrer", desc := "(LFoldLister;II[J)I" } : Jvm.MethodName)) ∈ lw_all := lw_g (lw_at lw_m11 2 rfl) rfl
theorem q2506 : (Jvm.Cond.codeWith ({ cls := "FoldListerLaw", name := "referrer", desc := "(LFoldLister;II[J)I" } : Jvm.MethodName) method_23_code (5 : Nat) (Option.some Jvm.ClassFile.FieldType.int) [((0 : Nat), (10 : Nat), (13 : Nat), (13 : Nat))]) ∈ lw_all := lw_g (lw_at lw_m11 3 rfl) rfl
theorem q2507 : (Jvm.Cond.methodLink "FoldListerLaw" (77 : Nat) ({ cls := "FoldLister", name := "referrer", desc := "(II)I" } : Jvm.MethodName)) ∈ lw_all := lw_g (lw_at lw_m11 4 rfl) rfl
theorem q2511 : (Jvm.Cond.methodLink "FoldListerLaw" (289 : Nat) ({ cls := "FoldListerLaw", name := "jumped", desc := "(LFoldLister;ZI[J)I" } : Jvm.MethodName)) ∈ lw_all := lw_g (lw_at lw_m11 8 rfl) rfl
theorem q2512 : (Jvm.Cond.static ({ cls := "FoldListerLaw", name := "jumped", desc := "(LFoldLister;ZI[J)I" } : Jvm.MethodName)) ∈ lw_all := lw_g (lw_at lw_m11 9 rfl) rfl
theorem q2513 : (Jvm.Cond.codeWith ({ cls := "FoldListerLaw", name := "jumped", desc := "(LFoldLister;ZI[J)I" } : Jvm.MethodName) method_24_code (5 : Nat) (Option.some Jvm.ClassFile.FieldType.int) [((0 : Nat), (10 : Nat), (13 : Nat), (13 : Nat))]) ∈ lw_all := lw_g (lw_at lw_m11 10 rfl) rfl
theorem q2514 : (Jvm.Cond.methodLink "FoldListerLaw" (80 : Nat) ({ cls := "FoldLister", name := "jumped", desc := "(ZI)I" } : Jvm.MethodName)) ∈ lw_all := lw_g (lw_at lw_m11 11 rfl) rfl
theorem q2519 : (Jvm.Cond.methodLink "FoldListerLaw" (293 : Nat) ({ cls := "FoldListerLaw", name := "shownIf", desc := "(LFoldLister;IZ[J)I" } : Jvm.MethodName)) ∈ lw_all := lw_g (lw_at lw_m11 16 rfl) rfl
theorem q2520 : (Jvm.Cond.static ({ cls := "FoldListerLaw", name := "shownIf", desc := "(LFoldLister;IZ[J)I" } : Jvm.MethodName)) ∈ lw_all := lw_g (lw_at lw_m11 17 rfl) rfl
theorem q2521 : (Jvm.Cond.codeWith ({ cls := "FoldListerLaw", name := "shownIf", desc := "(LFoldLister;IZ[J)I" } : Jvm.MethodName) method_25_code (5 : Nat) (Option.some Jvm.ClassFile.FieldType.int) [((0 : Nat), (10 : Nat), (13 : Nat), (13 : Nat))]) ∈ lw_all := lw_g (lw_at lw_m11 18 rfl) rfl
theorem q2522 : (Jvm.Cond.methodLink "FoldListerLaw" (84 : Nat) ({ cls := "FoldLister", name := "shownIf", desc := "(IZ)I" } : Jvm.MethodName)) ∈ lw_all := lw_g (lw_at lw_m11 19 rfl) rfl
theorem q2526 : (Jvm.Cond.methodLink "FoldListerLaw" (296 : Nat) ({ cls := "FoldListerLaw", name := "opensFor", desc := "(LFoldLister;I[J)I" } : Jvm.MethodName)) ∈ lw_all := lw_g (lw_at lw_m11 23 rfl) rfl
theorem q2527 : (Jvm.Cond.static ({ cls := "FoldListerLaw", name := "opensFor", desc := "(LFoldLister;I[J)I" } : Jvm.MethodName)) ∈ lw_all := lw_g (lw_at lw_m11 24 rfl) rfl
theorem q2528 : (Jvm.Cond.codeWith ({ cls := "FoldListerLaw", name := "opensFor", desc := "(LFoldLister;I[J)I" } : Jvm.MethodName) method_26_code (4 : Nat) (Option.some Jvm.ClassFile.FieldType.int) [((0 : Nat), (9 : Nat), (12 : Nat), (13 : Nat))]) ∈ lw_all := lw_g (lw_at lw_m11 25 rfl) rfl
theorem q2529 : (Jvm.Cond.methodLink "FoldListerLaw" (87 : Nat) ({ cls := "FoldLister", name := "opensFor", desc := "(I)I" } : Jvm.MethodName)) ∈ lw_all := lw_g (lw_at lw_m11 26 rfl) rfl
theorem q2533 : (Jvm.Cond.methodLink "FoldListerLaw" (307 : Nat) ({ cls := "FoldListerLaw", name := "rowIf", desc := "(LFoldLister;I[J)I" } : Jvm.MethodName)) ∈ lw_all := lw_g (lw_at lw_m11 30 rfl) rfl
theorem q2534 : (Jvm.Cond.static ({ cls := "FoldListerLaw", name := "rowIf", desc := "(LFoldLister;I[J)I" } : Jvm.MethodName)) ∈ lw_all := lw_g (lw_at lw_m11 31 rfl) rfl
theorem q2535 : (Jvm.Cond.codeWith ({ cls := "FoldListerLaw", name := "rowIf", desc := "(LFoldLister;I[J)I" } : Jvm.MethodName) method_27_code (4 : Nat) (Option.some Jvm.ClassFile.FieldType.int) [((0 : Nat), (9 : Nat), (12 : Nat), (13 : Nat))]) ∈ lw_all := lw_g (lw_at lw_m11 32 rfl) rfl
theorem q2536 : (Jvm.Cond.methodLink "FoldListerLaw" (90 : Nat) ({ cls := "FoldLister", name := "rowIf", desc := "(I)I" } : Jvm.MethodName)) ∈ lw_all := lw_g (lw_at lw_m11 33 rfl) rfl
theorem q2554 : (Jvm.Cond.methodLink "FoldListerLaw" (310 : Nat) ({ cls := "FoldListerLaw", name := "steps", desc := "(LFoldLister;II[J)I" } : Jvm.MethodName)) ∈ lw_all := lw_g (lw_at lw_m11 51 rfl) rfl
theorem q2555 : (Jvm.Cond.static ({ cls := "FoldListerLaw", name := "steps", desc := "(LFoldLister;II[J)I" } : Jvm.MethodName)) ∈ lw_all := lw_g (lw_at lw_m11 52 rfl) rfl
theorem q2556 : (Jvm.Cond.codeWith ({ cls := "FoldListerLaw", name := "steps", desc := "(LFoldLister;II[J)I" } : Jvm.MethodName) method_28_code (5 : Nat) (Option.some Jvm.ClassFile.FieldType.int) [((0 : Nat), (10 : Nat), (13 : Nat), (13 : Nat))]) ∈ lw_all := lw_g (lw_at lw_m11 53 rfl) rfl
theorem q2557 : (Jvm.Cond.methodLink "FoldListerLaw" (93 : Nat) ({ cls := "FoldLister", name := "steps", desc := "(II)I" } : Jvm.MethodName)) ∈ lw_all := lw_g (lw_at lw_m11 54 rfl) rfl
theorem q2561 : (Jvm.Cond.methodLink "FoldListerLaw" (313 : Nat) ({ cls := "FoldListerLaw", name := "writeLine", desc := "(LFoldLister;I[J)I" } : Jvm.MethodName)) ∈ lw_all := lw_g (lw_at lw_m11 58 rfl) rfl
theorem q2562 : (Jvm.Cond.static ({ cls := "FoldListerLaw", name := "writeLine", desc := "(LFoldLister;I[J)I" } : Jvm.MethodName)) ∈ lw_all := lw_g (lw_at lw_m11 59 rfl) rfl
theorem q2563 : (Jvm.Cond.codeWith ({ cls := "FoldListerLaw", name := "writeLine", desc := "(LFoldLister;I[J)I" } : Jvm.MethodName) method_29_code (4 : Nat) (Option.some Jvm.ClassFile.FieldType.int) [((0 : Nat), (9 : Nat), (12 : Nat), (13 : Nat))]) ∈ lw_all := lw_g (lw_at lw_m11 60 rfl) rfl
theorem q2564 : (Jvm.Cond.methodLink "FoldListerLaw" (96 : Nat) ({ cls := "FoldLister", name := "writeLine", desc := "(I)I" } : Jvm.MethodName)) ∈ lw_all := lw_g (lw_at lw_m11 61 rfl) rfl
theorem q2573 : (Jvm.Cond.methodLink "FoldListerLaw" (316 : Nat) ({ cls := "FoldListerLaw", name := "writeRows", desc := "(LFoldLister;II[J)I" } : Jvm.MethodName)) ∈ lw_all := lw_g (lw_at lw_m11 70 rfl) rfl
theorem q2574 : (Jvm.Cond.static ({ cls := "FoldListerLaw", name := "writeRows", desc := "(LFoldLister;II[J)I" } : Jvm.MethodName)) ∈ lw_all := lw_g (lw_at lw_m11 71 rfl) rfl
theorem q2575 : (Jvm.Cond.codeWith ({ cls := "FoldListerLaw", name := "writeRows", desc := "(LFoldLister;II[J)I" } : Jvm.MethodName) method_30_code (5 : Nat) (Option.some Jvm.ClassFile.FieldType.int) [((0 : Nat), (10 : Nat), (13 : Nat), (13 : Nat)), ((0 : Nat), (10 : Nat), (17 : Nat), (15 : Nat))]) ∈ lw_all := lw_g (lw_at lw_m11 72 rfl) rfl
theorem q2576 : (Jvm.Cond.methodLink "FoldListerLaw" (99 : Nat) ({ cls := "FoldLister", name := "writeRows", desc := "(II)I" } : Jvm.MethodName)) ∈ lw_all := lw_g (lw_at lw_m11 73 rfl) rfl
theorem q2580 : (Jvm.Cond.methodLink "FoldListerLaw" (323 : Nat) ({ cls := "FoldListerLaw", name := "textByte", desc := "(LFoldLister;I[J)I" } : Jvm.MethodName)) ∈ lw_all := lw_g (lw_at lw_m11 77 rfl) rfl
theorem q2581 : (Jvm.Cond.static ({ cls := "FoldListerLaw", name := "textByte", desc := "(LFoldLister;I[J)I" } : Jvm.MethodName)) ∈ lw_all := lw_g (lw_at lw_m11 78 rfl) rfl
theorem q2582 : (Jvm.Cond.codeWith ({ cls := "FoldListerLaw", name := "textByte", desc := "(LFoldLister;I[J)I" } : Jvm.MethodName) method_31_code (4 : Nat) (Option.some Jvm.ClassFile.FieldType.int) [((0 : Nat), (9 : Nat), (12 : Nat), (13 : Nat))]) ∈ lw_all := lw_g (lw_at lw_m11 79 rfl) rfl
theorem q2583 : (Jvm.Cond.methodLink "FoldListerLaw" (102 : Nat) ({ cls := "FoldLister", name := "textByte", desc := "(I)I" } : Jvm.MethodName)) ∈ lw_all := lw_g (lw_at lw_m11 80 rfl) rfl
theorem q2597 : (Jvm.Cond.methodLink "FoldListerLaw" (326 : Nat) ({ cls := "FoldListerLaw", name := "insert", desc := "(LFoldLister;II[J)I" } : Jvm.MethodName)) ∈ lw_all := lw_g (lw_at lw_m11 94 rfl) rfl
theorem q2598 : (Jvm.Cond.static ({ cls := "FoldListerLaw", name := "insert", desc := "(LFoldLister;II[J)I" } : Jvm.MethodName)) ∈ lw_all := lw_g (lw_at lw_m11 95 rfl) rfl
theorem q2599 : (Jvm.Cond.codeWith ({ cls := "FoldListerLaw", name := "insert", desc := "(LFoldLister;II[J)I" } : Jvm.MethodName) method_32_code (5 : Nat) (Option.some Jvm.ClassFile.FieldType.int) [((0 : Nat), (10 : Nat), (13 : Nat), (13 : Nat)), ((0 : Nat), (10 : Nat), (17 : Nat), (15 : Nat))]) ∈ lw_all := lw_g (lw_at lw_m11 96 rfl) rfl
theorem q2600 : (Jvm.Cond.methodLink "FoldListerLaw" (105 : Nat) ({ cls := "FoldLister", name := "insert", desc := "(II)I" } : Jvm.MethodName)) ∈ lw_all := lw_g (lw_at lw_m11 97 rfl) rfl
theorem q2611 : (Jvm.Cond.methodLink "FoldListerLaw" (329 : Nat) ({ cls := "FoldListerLaw", name := "replace", desc := "(LFoldLister;II[J)I" } : Jvm.MethodName)) ∈ lw_all := lw_g (lw_at lw_m11 108 rfl) rfl
theorem q2612 : (Jvm.Cond.static ({ cls := "FoldListerLaw", name := "replace", desc := "(LFoldLister;II[J)I" } : Jvm.MethodName)) ∈ lw_all := lw_g (lw_at lw_m11 109 rfl) rfl
theorem q2613 : (Jvm.Cond.codeWith ({ cls := "FoldListerLaw", name := "replace", desc := "(LFoldLister;II[J)I" } : Jvm.MethodName) method_33_code (5 : Nat) (Option.some Jvm.ClassFile.FieldType.int) [((0 : Nat), (10 : Nat), (13 : Nat), (13 : Nat)), ((0 : Nat), (10 : Nat), (17 : Nat), (15 : Nat))]) ∈ lw_all := lw_g (lw_at lw_m11 110 rfl) rfl
theorem q2614 : (Jvm.Cond.methodLink "FoldListerLaw" (108 : Nat) ({ cls := "FoldLister", name := "replace", desc := "(II)I" } : Jvm.MethodName)) ∈ lw_all := lw_g (lw_at lw_m11 111 rfl) rfl
theorem q2624 : (Jvm.Cond.methodLink "FoldListerLaw" (332 : Nat) ({ cls := "FoldListerLaw", name := "join", desc := "(LFoldLister;I[J)I" } : Jvm.MethodName)) ∈ lw_all := lw_g (lw_at lw_m11 121 rfl) rfl
theorem q2625 : (Jvm.Cond.static ({ cls := "FoldListerLaw", name := "join", desc := "(LFoldLister;I[J)I" } : Jvm.MethodName)) ∈ lw_all := lw_g (lw_at lw_m11 122 rfl) rfl
theorem q2626 : (Jvm.Cond.codeWith ({ cls := "FoldListerLaw", name := "join", desc := "(LFoldLister;I[J)I" } : Jvm.MethodName) method_34_code (4 : Nat) (Option.some Jvm.ClassFile.FieldType.int) [((0 : Nat), (9 : Nat), (12 : Nat), (13 : Nat)), ((0 : Nat), (9 : Nat), (15 : Nat), (15 : Nat))]) ∈ lw_all := lw_g (lw_at lw_m11 123 rfl) rfl
theorem q2627 : (Jvm.Cond.methodLink "FoldListerLaw" (111 : Nat) ({ cls := "FoldLister", name := "join", desc := "(I)I" } : Jvm.MethodName)) ∈ lw_all := lw_g (lw_at lw_m11 124 rfl) rfl
theorem q2735 : (Jvm.Cond.methodLink "FoldListerLaw" (335 : Nat) ({ cls := "FoldListerLaw", name := "part", desc := "(LFoldLister;II[J)I" } : Jvm.MethodName)) ∈ lw_all := lw_g (lw_at lw_m11 232 rfl) rfl
theorem q2736 : (Jvm.Cond.static ({ cls := "FoldListerLaw", name := "part", desc := "(LFoldLister;II[J)I" } : Jvm.MethodName)) ∈ lw_all := lw_g (lw_at lw_m11 233 rfl) rfl
theorem q2737 : (Jvm.Cond.codeWith ({ cls := "FoldListerLaw", name := "part", desc := "(LFoldLister;II[J)I" } : Jvm.MethodName) method_35_code (5 : Nat) (Option.some Jvm.ClassFile.FieldType.int) [((0 : Nat), (10 : Nat), (13 : Nat), (13 : Nat)), ((0 : Nat), (10 : Nat), (17 : Nat), (15 : Nat))]) ∈ lw_all := lw_g (lw_at lw_m11 234 rfl) rfl
theorem q2738 : (Jvm.Cond.methodLink "FoldListerLaw" (114 : Nat) ({ cls := "FoldLister", name := "part", desc := "(II)I" } : Jvm.MethodName)) ∈ lw_all := lw_g (lw_at lw_m11 235 rfl) rfl
theorem q2748 : (Jvm.Cond.methodLink "FoldListerLaw" (338 : Nat) ({ cls := "FoldListerLaw", name := "remove", desc := "(LFoldLister;II[J)I" } : Jvm.MethodName)) ∈ lw_all := lw_g (lw_at lw_m12 5 rfl) rfl
theorem q2749 : (Jvm.Cond.static ({ cls := "FoldListerLaw", name := "remove", desc := "(LFoldLister;II[J)I" } : Jvm.MethodName)) ∈ lw_all := lw_g (lw_at lw_m12 6 rfl) rfl
theorem q2750 : (Jvm.Cond.codeWith ({ cls := "FoldListerLaw", name := "remove", desc := "(LFoldLister;II[J)I" } : Jvm.MethodName) method_36_code (5 : Nat) (Option.some Jvm.ClassFile.FieldType.int) [((0 : Nat), (10 : Nat), (13 : Nat), (13 : Nat)), ((0 : Nat), (10 : Nat), (17 : Nat), (15 : Nat))]) ∈ lw_all := lw_g (lw_at lw_m12 7 rfl) rfl
theorem q2751 : (Jvm.Cond.methodLink "FoldListerLaw" (117 : Nat) ({ cls := "FoldLister", name := "remove", desc := "(II)I" } : Jvm.MethodName)) ∈ lw_all := lw_g (lw_at lw_m12 8 rfl) rfl
theorem q2759 : (Jvm.Cond.methodLink "FoldListerLaw" (341 : Nat) ({ cls := "FoldListerLaw", name := "move", desc := "(LFoldLister;III[J)I" } : Jvm.MethodName)) ∈ lw_all := lw_g (lw_at lw_m12 16 rfl) rfl
theorem q2760 : (Jvm.Cond.static ({ cls := "FoldListerLaw", name := "move", desc := "(LFoldLister;III[J)I" } : Jvm.MethodName)) ∈ lw_all := lw_g (lw_at lw_m12 17 rfl) rfl
theorem q2761 : (Jvm.Cond.codeWith ({ cls := "FoldListerLaw", name := "move", desc := "(LFoldLister;III[J)I" } : Jvm.MethodName) method_37_code (6 : Nat) (Option.some Jvm.ClassFile.FieldType.int) [((0 : Nat), (12 : Nat), (15 : Nat), (13 : Nat)), ((0 : Nat), (12 : Nat), (19 : Nat), (15 : Nat))]) ∈ lw_all := lw_g (lw_at lw_m12 18 rfl) rfl
theorem q2762 : (Jvm.Cond.methodLink "FoldListerLaw" (120 : Nat) ({ cls := "FoldLister", name := "move", desc := "(III)I" } : Jvm.MethodName)) ∈ lw_all := lw_g (lw_at lw_m12 19 rfl) rfl
theorem q2785 : (Jvm.Cond.methodLink "FoldListerLaw" (345 : Nat) ({ cls := "FoldListerLaw", name := "copy", desc := "(LFoldLister;III[J)I" } : Jvm.MethodName)) ∈ lw_all := lw_g (lw_at lw_m12 42 rfl) rfl
theorem q2786 : (Jvm.Cond.static ({ cls := "FoldListerLaw", name := "copy", desc := "(LFoldLister;III[J)I" } : Jvm.MethodName)) ∈ lw_all := lw_g (lw_at lw_m12 43 rfl) rfl
theorem q2787 : (Jvm.Cond.codeWith ({ cls := "FoldListerLaw", name := "copy", desc := "(LFoldLister;III[J)I" } : Jvm.MethodName) method_38_code (6 : Nat) (Option.some Jvm.ClassFile.FieldType.int) [((0 : Nat), (12 : Nat), (15 : Nat), (13 : Nat)), ((0 : Nat), (12 : Nat), (19 : Nat), (15 : Nat))]) ∈ lw_all := lw_g (lw_at lw_m12 44 rfl) rfl
theorem q2788 : (Jvm.Cond.methodLink "FoldListerLaw" (124 : Nat) ({ cls := "FoldLister", name := "copy", desc := "(III)I" } : Jvm.MethodName)) ∈ lw_all := lw_g (lw_at lw_m12 45 rfl) rfl
theorem q2793 : (Jvm.Cond.methodLink "FoldListerLaw" (348 : Nat) ({ cls := "FoldListerLaw", name := "reverse", desc := "(LFoldLister;II[J)I" } : Jvm.MethodName)) ∈ lw_all := lw_g (lw_at lw_m12 50 rfl) rfl
theorem q2794 : (Jvm.Cond.static ({ cls := "FoldListerLaw", name := "reverse", desc := "(LFoldLister;II[J)I" } : Jvm.MethodName)) ∈ lw_all := lw_g (lw_at lw_m12 51 rfl) rfl
theorem q2795 : (Jvm.Cond.codeWith ({ cls := "FoldListerLaw", name := "reverse", desc := "(LFoldLister;II[J)I" } : Jvm.MethodName) method_39_code (5 : Nat) (Option.some Jvm.ClassFile.FieldType.int) [((0 : Nat), (10 : Nat), (13 : Nat), (13 : Nat)), ((0 : Nat), (10 : Nat), (17 : Nat), (15 : Nat))]) ∈ lw_all := lw_g (lw_at lw_m12 52 rfl) rfl
theorem q2796 : (Jvm.Cond.methodLink "FoldListerLaw" (127 : Nat) ({ cls := "FoldLister", name := "reverse", desc := "(II)I" } : Jvm.MethodName)) ∈ lw_all := lw_g (lw_at lw_m12 53 rfl) rfl
theorem q2800 : (Jvm.Cond.methodLink "FoldListerLaw" (351 : Nat) ({ cls := "FoldListerLaw", name := "close", desc := "(LFoldLister;IZ[J)I" } : Jvm.MethodName)) ∈ lw_all := lw_g (lw_at lw_m12 57 rfl) rfl
theorem q2801 : (Jvm.Cond.static ({ cls := "FoldListerLaw", name := "close", desc := "(LFoldLister;IZ[J)I" } : Jvm.MethodName)) ∈ lw_all := lw_g (lw_at lw_m12 58 rfl) rfl
theorem q2802 : (Jvm.Cond.codeWith ({ cls := "FoldListerLaw", name := "close", desc := "(LFoldLister;IZ[J)I" } : Jvm.MethodName) method_40_code (5 : Nat) (Option.some Jvm.ClassFile.FieldType.int) [((0 : Nat), (17 : Nat), (20 : Nat), (13 : Nat))]) ∈ lw_all := lw_g (lw_at lw_m12 59 rfl) rfl
theorem q2803 : (Jvm.Cond.methodLink "FoldListerLaw" (130 : Nat) ({ cls := "FoldLister", name := "close", desc := "(IZ)Z" } : Jvm.MethodName)) ∈ lw_all := lw_g (lw_at lw_m12 60 rfl) rfl
theorem q2808 : (Jvm.Cond.methodLink "FoldListerLaw" (354 : Nat) ({ cls := "FoldListerLaw", name := "fold", desc := "(LFoldLister;I[J)I" } : Jvm.MethodName)) ∈ lw_all := lw_g (lw_at lw_m12 65 rfl) rfl
theorem q2809 : (Jvm.Cond.static ({ cls := "FoldListerLaw", name := "fold", desc := "(LFoldLister;I[J)I" } : Jvm.MethodName)) ∈ lw_all := lw_g (lw_at lw_m12 66 rfl) rfl
theorem q2810 : (Jvm.Cond.codeWith ({ cls := "FoldListerLaw", name := "fold", desc := "(LFoldLister;I[J)I" } : Jvm.MethodName) method_41_code (4 : Nat) (Option.some Jvm.ClassFile.FieldType.int) [((0 : Nat), (9 : Nat), (12 : Nat), (13 : Nat)), ((0 : Nat), (9 : Nat), (15 : Nat), (15 : Nat))]) ∈ lw_all := lw_g (lw_at lw_m12 67 rfl) rfl
theorem q2811 : (Jvm.Cond.methodLink "FoldListerLaw" (134 : Nat) ({ cls := "FoldLister", name := "fold", desc := "(I)I" } : Jvm.MethodName)) ∈ lw_all := lw_g (lw_at lw_m12 68 rfl) rfl
theorem q2815 : (Jvm.Cond.methodLink "FoldListerLaw" (357 : Nat) ({ cls := "FoldListerLaw", name := "closeLevel", desc := "(LFoldLister;I[J)I" } : Jvm.MethodName)) ∈ lw_all := lw_g (lw_at lw_m12 72 rfl) rfl
theorem q2816 : (Jvm.Cond.static ({ cls := "FoldListerLaw", name := "closeLevel", desc := "(LFoldLister;I[J)I" } : Jvm.MethodName)) ∈ lw_all := lw_g (lw_at lw_m12 73 rfl) rfl
theorem q2817 : (Jvm.Cond.codeWith ({ cls := "FoldListerLaw", name := "closeLevel", desc := "(LFoldLister;I[J)I" } : Jvm.MethodName) method_42_code (4 : Nat) (Option.some Jvm.ClassFile.FieldType.int) [((0 : Nat), (9 : Nat), (12 : Nat), (15 : Nat))]) ∈ lw_all := lw_g (lw_at lw_m12 74 rfl) rfl
theorem q2818 : (Jvm.Cond.methodLink "FoldListerLaw" (137 : Nat) ({ cls := "FoldLister", name := "closeLevel", desc := "(I)I" } : Jvm.MethodName)) ∈ lw_all := lw_g (lw_at lw_m12 75 rfl) rfl
theorem q2823 : (Jvm.Cond.methodLink "FoldListerLaw" (364 : Nat) ({ cls := "FoldListerLaw", name := "show", desc := "(LFoldLister;I[J)I" } : Jvm.MethodName)) ∈ lw_all := lw_g (lw_at lw_m12 80 rfl) rfl
theorem q2824 : (Jvm.Cond.static ({ cls := "FoldListerLaw", name := "show", desc := "(LFoldLister;I[J)I" } : Jvm.MethodName)) ∈ lw_all := lw_g (lw_at lw_m12 81 rfl) rfl
theorem q2825 : (Jvm.Cond.codeWith ({ cls := "FoldListerLaw", name := "show", desc := "(LFoldLister;I[J)I" } : Jvm.MethodName) method_43_code (4 : Nat) (Option.some Jvm.ClassFile.FieldType.int) [((0 : Nat), (9 : Nat), (12 : Nat), (13 : Nat))]) ∈ lw_all := lw_g (lw_at lw_m12 82 rfl) rfl
theorem q2826 : (Jvm.Cond.methodLink "FoldListerLaw" (140 : Nat) ({ cls := "FoldLister", name := "show", desc := "(I)I" } : Jvm.MethodName)) ∈ lw_all := lw_g (lw_at lw_m12 83 rfl) rfl
theorem q2837 : (Jvm.Cond.methodLink "FoldListerLaw" (367 : Nat) ({ cls := "FoldListerLaw", name := "mark", desc := "(LFoldLister;II[J)I" } : Jvm.MethodName)) ∈ lw_all := lw_g (lw_at lw_m12 94 rfl) rfl
theorem q2838 : (Jvm.Cond.static ({ cls := "FoldListerLaw", name := "mark", desc := "(LFoldLister;II[J)I" } : Jvm.MethodName)) ∈ lw_all := lw_g (lw_at lw_m12 95 rfl) rfl
theorem q2839 : (Jvm.Cond.codeWith ({ cls := "FoldListerLaw", name := "mark", desc := "(LFoldLister;II[J)I" } : Jvm.MethodName) method_44_code (5 : Nat) (Option.some Jvm.ClassFile.FieldType.int) [((0 : Nat), (10 : Nat), (13 : Nat), (13 : Nat))]) ∈ lw_all := lw_g (lw_at lw_m12 96 rfl) rfl
theorem q2840 : (Jvm.Cond.methodLink "FoldListerLaw" (143 : Nat) ({ cls := "FoldLister", name := "mark", desc := "(II)I" } : Jvm.MethodName)) ∈ lw_all := lw_g (lw_at lw_m12 97 rfl) rfl
theorem q2845 : (Jvm.Cond.methodLink "FoldListerLaw" (370 : Nat) ({ cls := "FoldListerLaw", name := "jump", desc := "(LFoldLister;I[J)I" } : Jvm.MethodName)) ∈ lw_all := lw_g (lw_at lw_m12 102 rfl) rfl
theorem q2846 : (Jvm.Cond.static ({ cls := "FoldListerLaw", name := "jump", desc := "(LFoldLister;I[J)I" } : Jvm.MethodName)) ∈ lw_all := lw_g (lw_at lw_m12 103 rfl) rfl
theorem q2847 : (Jvm.Cond.codeWith ({ cls := "FoldListerLaw", name := "jump", desc := "(LFoldLister;I[J)I" } : Jvm.MethodName) method_45_code (4 : Nat) (Option.some Jvm.ClassFile.FieldType.int) [((0 : Nat), (9 : Nat), (12 : Nat), (13 : Nat))]) ∈ lw_all := lw_g (lw_at lw_m12 104 rfl) rfl
theorem q2848 : (Jvm.Cond.methodLink "FoldListerLaw" (146 : Nat) ({ cls := "FoldLister", name := "jump", desc := "(I)I" } : Jvm.MethodName)) ∈ lw_all := lw_g (lw_at lw_m12 105 rfl) rfl
theorem q2884 : (Jvm.Cond.methodLink "FoldListerLaw" (373 : Nat) ({ cls := "FoldListerLaw", name := "follow", desc := "(LFoldLister;[J)I" } : Jvm.MethodName)) ∈ lw_all := lw_g (lw_at lw_m12 141 rfl) rfl
theorem q2885 : (Jvm.Cond.static ({ cls := "FoldListerLaw", name := "follow", desc := "(LFoldLister;[J)I" } : Jvm.MethodName)) ∈ lw_all := lw_g (lw_at lw_m12 142 rfl) rfl
theorem q2886 : (Jvm.Cond.codeWith ({ cls := "FoldListerLaw", name := "follow", desc := "(LFoldLister;[J)I" } : Jvm.MethodName) method_46_code (3 : Nat) (Option.some Jvm.ClassFile.FieldType.int) [((0 : Nat), (8 : Nat), (11 : Nat), (15 : Nat))]) ∈ lw_all := lw_g (lw_at lw_m12 143 rfl) rfl
theorem q2887 : (Jvm.Cond.methodLink "FoldListerLaw" (149 : Nat) ({ cls := "FoldLister", name := "follow", desc := "()I" } : Jvm.MethodName)) ∈ lw_all := lw_g (lw_at lw_m12 144 rfl) rfl
theorem q2891 : (Jvm.Cond.methodLink "FoldListerLaw" (377 : Nat) ({ cls := "FoldListerLaw", name := "back", desc := "(LFoldLister;[J)I" } : Jvm.MethodName)) ∈ lw_all := lw_g (lw_at lw_m12 148 rfl) rfl
theorem q2892 : (Jvm.Cond.static ({ cls := "FoldListerLaw", name := "back", desc := "(LFoldLister;[J)I" } : Jvm.MethodName)) ∈ lw_all := lw_g (lw_at lw_m12 149 rfl) rfl
theorem q2893 : (Jvm.Cond.codeWith ({ cls := "FoldListerLaw", name := "back", desc := "(LFoldLister;[J)I" } : Jvm.MethodName) method_47_code (3 : Nat) (Option.some Jvm.ClassFile.FieldType.int) [((0 : Nat), (8 : Nat), (11 : Nat), (15 : Nat))]) ∈ lw_all := lw_g (lw_at lw_m12 150 rfl) rfl
theorem q2894 : (Jvm.Cond.methodLink "FoldListerLaw" (153 : Nat) ({ cls := "FoldLister", name := "back", desc := "()I" } : Jvm.MethodName)) ∈ lw_all := lw_g (lw_at lw_m12 151 rfl) rfl
theorem q2920 : (Jvm.Cond.methodLink "FoldListerLaw" (380 : Nat) ({ cls := "FoldListerLaw", name := "forward", desc := "(LFoldLister;[J)I" } : Jvm.MethodName)) ∈ lw_all := lw_g (lw_at lw_m12 177 rfl) rfl
theorem q2921 : (Jvm.Cond.static ({ cls := "FoldListerLaw", name := "forward", desc := "(LFoldLister;[J)I" } : Jvm.MethodName)) ∈ lw_all := lw_g (lw_at lw_m12 178 rfl) rfl
theorem q2922 : (Jvm.Cond.codeWith ({ cls := "FoldListerLaw", name := "forward", desc := "(LFoldLister;[J)I" } : Jvm.MethodName) method_48_code (3 : Nat) (Option.some Jvm.ClassFile.FieldType.int) [((0 : Nat), (8 : Nat), (11 : Nat), (15 : Nat))]) ∈ lw_all := lw_g (lw_at lw_m12 179 rfl) rfl
theorem q2923 : (Jvm.Cond.methodLink "FoldListerLaw" (156 : Nat) ({ cls := "FoldLister", name := "forward", desc := "()I" } : Jvm.MethodName)) ∈ lw_all := lw_g (lw_at lw_m12 180 rfl) rfl
theorem q2927 : (Jvm.Cond.methodLink "FoldListerLaw" (383 : Nat) ({ cls := "FoldListerLaw", name := "undo", desc := "(LFoldLister;[J)I" } : Jvm.MethodName)) ∈ lw_all := lw_g (lw_at lw_m12 184 rfl) rfl
theorem q2928 : (Jvm.Cond.static ({ cls := "FoldListerLaw", name := "undo", desc := "(LFoldLister;[J)I" } : Jvm.MethodName)) ∈ lw_all := lw_g (lw_at lw_m12 185 rfl) rfl
theorem q2929 : (Jvm.Cond.codeWith ({ cls := "FoldListerLaw", name := "undo", desc := "(LFoldLister;[J)I" } : Jvm.MethodName) method_49_code (3 : Nat) (Option.some Jvm.ClassFile.FieldType.int) [((0 : Nat), (8 : Nat), (11 : Nat), (162 : Nat))]) ∈ lw_all := lw_g (lw_at lw_m12 186 rfl) rfl
theorem q2930 : (Jvm.Cond.classLink "FoldListerLaw" (162 : Nat) "java/lang/IllegalStateException") ∈ lw_all := lw_g (lw_at lw_m12 187 rfl) rfl
theorem q2931 : (Jvm.Cond.methodLink "FoldListerLaw" (159 : Nat) ({ cls := "FoldLister", name := "undo", desc := "()I" } : Jvm.MethodName)) ∈ lw_all := lw_g (lw_at lw_m12 188 rfl) rfl
theorem q2942 : (Jvm.Cond.methodLink "FoldListerLaw" (390 : Nat) ({ cls := "FoldListerLaw", name := "save", desc := "(LFoldLister;I[J)I" } : Jvm.MethodName)) ∈ lw_all := lw_g (lw_at lw_m12 199 rfl) rfl
theorem q2943 : (Jvm.Cond.static ({ cls := "FoldListerLaw", name := "save", desc := "(LFoldLister;I[J)I" } : Jvm.MethodName)) ∈ lw_all := lw_g (lw_at lw_m12 200 rfl) rfl
theorem q2944 : (Jvm.Cond.codeWith ({ cls := "FoldListerLaw", name := "save", desc := "(LFoldLister;I[J)I" } : Jvm.MethodName) method_50_code (4 : Nat) (Option.some Jvm.ClassFile.FieldType.int) [((0 : Nat), (9 : Nat), (12 : Nat), (13 : Nat))]) ∈ lw_all := lw_g (lw_at lw_m12 201 rfl) rfl
theorem q2945 : (Jvm.Cond.methodLink "FoldListerLaw" (164 : Nat) ({ cls := "FoldLister", name := "save", desc := "(I)I" } : Jvm.MethodName)) ∈ lw_all := lw_g (lw_at lw_m12 202 rfl) rfl
theorem q2949 : (Jvm.Cond.methodLink "FoldListerLaw" (393 : Nat) ({ cls := "FoldListerLaw", name := "restore", desc := "(LFoldLister;I[J)I" } : Jvm.MethodName)) ∈ lw_all := lw_g (lw_at lw_m12 206 rfl) rfl
theorem q2950 : (Jvm.Cond.static ({ cls := "FoldListerLaw", name := "restore", desc := "(LFoldLister;I[J)I" } : Jvm.MethodName)) ∈ lw_all := lw_g (lw_at lw_m12 207 rfl) rfl
theorem q2951 : (Jvm.Cond.codeWith ({ cls := "FoldListerLaw", name := "restore", desc := "(LFoldLister;I[J)I" } : Jvm.MethodName) method_51_code (4 : Nat) (Option.some Jvm.ClassFile.FieldType.int) [((0 : Nat), (9 : Nat), (12 : Nat), (13 : Nat)), ((0 : Nat), (9 : Nat), (15 : Nat), (162 : Nat))]) ∈ lw_all := lw_g (lw_at lw_m12 208 rfl) rfl
theorem q2952 : (Jvm.Cond.methodLink "FoldListerLaw" (167 : Nat) ({ cls := "FoldLister", name := "restore", desc := "(I)I" } : Jvm.MethodName)) ∈ lw_all := lw_g (lw_at lw_m12 209 rfl) rfl
theorem q2956 : (Jvm.Cond.methodLink "FoldListerLaw" (185 : Nat) ({ cls := "FoldListerModel", name := "thrown", desc := "()I" } : Jvm.MethodName)) ∈ lw_all := lw_g (lw_at lw_m12 213 rfl) rfl
theorem q2960 : (Jvm.Cond.classLink "FoldListerLaw" (171 : Nat) "FoldListerModel") ∈ lw_all := lw_g (lw_at lw_m12 217 rfl) rfl
theorem q2962 : (Jvm.Cond.methodLink "FoldListerLaw" (173 : Nat) ({ cls := "FoldListerModel", name := "<init>", desc := "()V" } : Jvm.MethodName)) ∈ lw_all := lw_g (lw_at lw_m12 219 rfl) rfl
theorem q3059 : (Jvm.Cond.methodLink "FoldListerLaw" (178 : Nat) ({ cls := "FoldListerModel", name := "append", desc := "(IIIII)I" } : Jvm.MethodName)) ∈ lw_all := lw_g (lw_at lw_m13 76 rfl) rfl
theorem q3067 : (Jvm.Cond.methodLink "FoldListerLaw" (191 : Nat) ({ cls := "FoldListerModel", name := "parseError", desc := "()I" } : Jvm.MethodName)) ∈ lw_all := lw_g (lw_at lw_m13 84 rfl) rfl
theorem q3071 : (Jvm.Cond.methodLink "FoldListerLaw" (195 : Nat) ({ cls := "FoldListerModel", name := "errorPosition", desc := "()I" } : Jvm.MethodName)) ∈ lw_all := lw_g (lw_at lw_m13 88 rfl) rfl
theorem q3075 : (Jvm.Cond.methodLink "FoldListerLaw" (199 : Nat) ({ cls := "FoldListerModel", name := "buffered", desc := "()I" } : Jvm.MethodName)) ∈ lw_all := lw_g (lw_at lw_m13 92 rfl) rfl
theorem q3079 : (Jvm.Cond.methodLink "FoldListerLaw" (184 : Nat) ({ cls := "FoldListerModel", name := "load", desc := "(I)I" } : Jvm.MethodName)) ∈ lw_all := lw_g (lw_at lw_m13 96 rfl) rfl
theorem q3108 : (Jvm.Cond.methodLink "FoldListerLaw" (206 : Nat) ({ cls := "FoldListerModel", name := "line", desc := "(II)I" } : Jvm.MethodName)) ∈ lw_all := lw_g (lw_at lw_m13 125 rfl) rfl
theorem q3185 : (Jvm.Cond.methodLink "FoldListerLaw" (209 : Nat) ({ cls := "FoldListerModel", name := "byteOf", desc := "(II)I" } : Jvm.MethodName)) ∈ lw_all := lw_g (lw_at lw_m13 202 rfl) rfl
theorem q3189 : (Jvm.Cond.methodLink "FoldListerLaw" (213 : Nat) ({ cls := "FoldListerModel", name := "lineOfKey", desc := "(I)I" } : Jvm.MethodName)) ∈ lw_all := lw_g (lw_at lw_m13 206 rfl) rfl
theorem q3197 : (Jvm.Cond.methodLink "FoldListerLaw" (216 : Nat) ({ cls := "FoldListerModel", name := "lineOfRow", desc := "(I)I" } : Jvm.MethodName)) ∈ lw_all := lw_g (lw_at lw_m13 214 rfl) rfl
theorem q3209 : (Jvm.Cond.methodLink "FoldListerLaw" (219 : Nat) ({ cls := "FoldListerModel", name := "rowNear", desc := "(I)I" } : Jvm.MethodName)) ∈ lw_all := lw_g (lw_at lw_m13 226 rfl) rfl
theorem q3213 : (Jvm.Cond.methodLink "FoldListerLaw" (222 : Nat) ({ cls := "FoldListerModel", name := "rowsBetween", desc := "(II)I" } : Jvm.MethodName)) ∈ lw_all := lw_g (lw_at lw_m13 230 rfl) rfl
theorem q3219 : (Jvm.Cond.methodLink "FoldListerLaw" (226 : Nat) ({ cls := "FoldListerModel", name := "widest", desc := "()I" } : Jvm.MethodName)) ∈ lw_all := lw_g (lw_at lw_m13 236 rfl) rfl
theorem q3223 : (Jvm.Cond.methodLink "FoldListerLaw" (230 : Nat) ({ cls := "FoldListerModel", name := "seek", desc := "(IIZ)I" } : Jvm.MethodName)) ∈ lw_all := lw_g (lw_at lw_m14 0 rfl) rfl
theorem q3235 : (Jvm.Cond.methodLink "FoldListerLaw" (235 : Nat) ({ cls := "FoldListerModel", name := "meanLength", desc := "()D" } : Jvm.MethodName)) ∈ lw_all := lw_g (lw_at lw_m14 12 rfl) rfl
theorem q3239 : (Jvm.Cond.methodLink "FoldListerLaw" (240 : Nat) ({ cls := "FoldListerModel", name := "shownShare", desc := "()F" } : Jvm.MethodName)) ∈ lw_all := lw_g (lw_at lw_m14 16 rfl) rfl
theorem q3243 : (Jvm.Cond.methodLink "FoldListerLaw" (202 : Nat) ({ cls := "FoldListerModel", name := "count", desc := "(I)I" } : Jvm.MethodName)) ∈ lw_all := lw_g (lw_at lw_m14 20 rfl) rfl
theorem q3278 : (Jvm.Cond.methodLink "FoldListerLaw" (243 : Nat) ({ cls := "FoldListerModel", name := "region", desc := "(II)I" } : Jvm.MethodName)) ∈ lw_all := lw_g (lw_at lw_m14 55 rfl) rfl
theorem q3282 : (Jvm.Cond.methodLink "FoldListerLaw" (246 : Nat) ({ cls := "FoldListerModel", name := "regionAt", desc := "(I)I" } : Jvm.MethodName)) ∈ lw_all := lw_g (lw_at lw_m14 59 rfl) rfl
theorem q3294 : (Jvm.Cond.methodLink "FoldListerLaw" (249 : Nat) ({ cls := "FoldListerModel", name := "hiddenBy", desc := "(I)I" } : Jvm.MethodName)) ∈ lw_all := lw_g (lw_at lw_m14 71 rfl) rfl
theorem q3298 : (Jvm.Cond.methodLink "FoldListerLaw" (252 : Nat) ({ cls := "FoldListerModel", name := "partner", desc := "(II)I" } : Jvm.MethodName)) ∈ lw_all := lw_g (lw_at lw_m14 75 rfl) rfl
theorem q3305 : (Jvm.Cond.methodLink "FoldListerLaw" (255 : Nat) ({ cls := "FoldListerModel", name := "loose", desc := "(I)I" } : Jvm.MethodName)) ∈ lw_all := lw_g (lw_at lw_m14 82 rfl) rfl
theorem q3309 : (Jvm.Cond.methodLink "FoldListerLaw" (259 : Nat) ({ cls := "FoldListerModel", name := "deepest", desc := "()I" } : Jvm.MethodName)) ∈ lw_all := lw_g (lw_at lw_m14 86 rfl) rfl
theorem q3313 : (Jvm.Cond.methodLink "FoldListerLaw" (262 : Nat) ({ cls := "FoldListerModel", name := "outline", desc := "(II)I" } : Jvm.MethodName)) ∈ lw_all := lw_g (lw_at lw_m14 90 rfl) rfl
theorem q3317 : (Jvm.Cond.methodLink "FoldListerLaw" (265 : Nat) ({ cls := "FoldListerModel", name := "marker", desc := "(I)I" } : Jvm.MethodName)) ∈ lw_all := lw_g (lw_at lw_m14 94 rfl) rfl
theorem q3324 : (Jvm.Cond.methodLink "FoldListerLaw" (269 : Nat) ({ cls := "FoldListerModel", name := "nextMarked", desc := "(IZ)I" } : Jvm.MethodName)) ∈ lw_all := lw_g (lw_at lw_m14 101 rfl) rfl
theorem q3328 : (Jvm.Cond.methodLink "FoldListerLaw" (272 : Nat) ({ cls := "FoldListerModel", name := "labelled", desc := "(I)I" } : Jvm.MethodName)) ∈ lw_all := lw_g (lw_at lw_m14 105 rfl) rfl
theorem q3332 : (Jvm.Cond.methodLink "FoldListerLaw" (275 : Nat) ({ cls := "FoldListerModel", name := "labelLength", desc := "(I)I" } : Jvm.MethodName)) ∈ lw_all := lw_g (lw_at lw_m14 109 rfl) rfl
theorem q3336 : (Jvm.Cond.methodLink "FoldListerLaw" (278 : Nat) ({ cls := "FoldListerModel", name := "target", desc := "(I)I" } : Jvm.MethodName)) ∈ lw_all := lw_g (lw_at lw_m14 113 rfl) rfl
theorem q3352 : (Jvm.Cond.methodLink "FoldListerLaw" (281 : Nat) ({ cls := "FoldListerModel", name := "referrers", desc := "(I)I" } : Jvm.MethodName)) ∈ lw_all := lw_g (lw_at lw_m14 129 rfl) rfl
theorem q3356 : (Jvm.Cond.methodLink "FoldListerLaw" (284 : Nat) ({ cls := "FoldListerModel", name := "referrer", desc := "(II)I" } : Jvm.MethodName)) ∈ lw_all := lw_g (lw_at lw_m14 133 rfl) rfl
theorem q3360 : (Jvm.Cond.methodLink "FoldListerLaw" (288 : Nat) ({ cls := "FoldListerModel", name := "cursor", desc := "()I" } : Jvm.MethodName)) ∈ lw_all := lw_g (lw_at lw_m14 137 rfl) rfl
theorem q3368 : (Jvm.Cond.methodLink "FoldListerLaw" (292 : Nat) ({ cls := "FoldListerModel", name := "jumped", desc := "(ZI)I" } : Jvm.MethodName)) ∈ lw_all := lw_g (lw_at lw_m14 145 rfl) rfl
theorem q3372 : (Jvm.Cond.methodLink "FoldListerLaw" (295 : Nat) ({ cls := "FoldListerModel", name := "shownIf", desc := "(IZ)I" } : Jvm.MethodName)) ∈ lw_all := lw_g (lw_at lw_m14 149 rfl) rfl
theorem q3376 : (Jvm.Cond.methodLink "FoldListerLaw" (298 : Nat) ({ cls := "FoldListerModel", name := "opensFor", desc := "(I)I" } : Jvm.MethodName)) ∈ lw_all := lw_g (lw_at lw_m14 153 rfl) rfl
theorem q3384 : (Jvm.Cond.methodLink "FoldListerLaw" (302 : Nat) ({ cls := "FoldListerModel", name := "opensForMarked", desc := "()I" } : Jvm.MethodName)) ∈ lw_all := lw_g (lw_at lw_m14 161 rfl) rfl
theorem q3392 : (Jvm.Cond.methodLink "FoldListerLaw" (306 : Nat) ({ cls := "FoldListerModel", name := "bestClose", desc := "()I" } : Jvm.MethodName)) ∈ lw_all := lw_g (lw_at lw_m14 169 rfl) rfl
theorem q3396 : (Jvm.Cond.methodLink "FoldListerLaw" (309 : Nat) ({ cls := "FoldListerModel", name := "rowIf", desc := "(I)I" } : Jvm.MethodName)) ∈ lw_all := lw_g (lw_at lw_m14 173 rfl) rfl
theorem q3400 : (Jvm.Cond.methodLink "FoldListerLaw" (312 : Nat) ({ cls := "FoldListerModel", name := "steps", desc := "(II)I" } : Jvm.MethodName)) ∈ lw_all := lw_g (lw_at lw_m14 177 rfl) rfl
theorem q3404 : (Jvm.Cond.methodLink "FoldListerLaw" (315 : Nat) ({ cls := "FoldListerModel", name := "writeLine", desc := "(I)I" } : Jvm.MethodName)) ∈ lw_all := lw_g (lw_at lw_m14 181 rfl) rfl
theorem q3420 : (Jvm.Cond.methodLink "FoldListerLaw" (318 : Nat) ({ cls := "FoldListerModel", name := "writeRows", desc := "(II)I" } : Jvm.MethodName)) ∈ lw_all := lw_g (lw_at lw_m14 197 rfl) rfl
theorem q3424 : (Jvm.Cond.methodLink "FoldListerLaw" (322 : Nat) ({ cls := "FoldListerModel", name := "writeOutline", desc := "()I" } : Jvm.MethodName)) ∈ lw_all := lw_g (lw_at lw_m14 201 rfl) rfl
theorem q3428 : (Jvm.Cond.methodLink "FoldListerLaw" (325 : Nat) ({ cls := "FoldListerModel", name := "textByte", desc := "(I)I" } : Jvm.MethodName)) ∈ lw_all := lw_g (lw_at lw_m14 205 rfl) rfl
theorem q3432 : (Jvm.Cond.methodLink "FoldListerLaw" (328 : Nat) ({ cls := "FoldListerModel", name := "insert", desc := "(II)I" } : Jvm.MethodName)) ∈ lw_all := lw_g (lw_at lw_m14 209 rfl) rfl
theorem q3464 : (Jvm.Cond.methodLink "FoldListerLaw" (331 : Nat) ({ cls := "FoldListerModel", name := "replace", desc := "(II)I" } : Jvm.MethodName)) ∈ lw_all := lw_g (lw_at lw_m15 1 rfl) rfl
theorem q3468 : (Jvm.Cond.methodLink "FoldListerLaw" (340 : Nat) ({ cls := "FoldListerModel", name := "remove", desc := "(II)I" } : Jvm.MethodName)) ∈ lw_all := lw_g (lw_at lw_m15 5 rfl) rfl
theorem q3488 : (Jvm.Cond.methodLink "FoldListerLaw" (334 : Nat) ({ cls := "FoldListerModel", name := "join", desc := "(I)I" } : Jvm.MethodName)) ∈ lw_all := lw_g (lw_at lw_m15 25 rfl) rfl
theorem q3492 : (Jvm.Cond.methodLink "FoldListerLaw" (337 : Nat) ({ cls := "FoldListerModel", name := "part", desc := "(II)I" } : Jvm.MethodName)) ∈ lw_all := lw_g (lw_at lw_m15 29 rfl) rfl
theorem q3496 : (Jvm.Cond.methodLink "FoldListerLaw" (344 : Nat) ({ cls := "FoldListerModel", name := "move", desc := "(III)I" } : Jvm.MethodName)) ∈ lw_all := lw_g (lw_at lw_m15 33 rfl) rfl
theorem q3500 : (Jvm.Cond.methodLink "FoldListerLaw" (347 : Nat) ({ cls := "FoldListerModel", name := "copy", desc := "(III)I" } : Jvm.MethodName)) ∈ lw_all := lw_g (lw_at lw_m15 37 rfl) rfl
theorem q3504 : (Jvm.Cond.methodLink "FoldListerLaw" (350 : Nat) ({ cls := "FoldListerModel", name := "reverse", desc := "(II)I" } : Jvm.MethodName)) ∈ lw_all := lw_g (lw_at lw_m15 41 rfl) rfl
theorem q3508 : (Jvm.Cond.methodLink "FoldListerLaw" (353 : Nat) ({ cls := "FoldListerModel", name := "close", desc := "(IZ)Z" } : Jvm.MethodName)) ∈ lw_all := lw_g (lw_at lw_m15 45 rfl) rfl
theorem q3512 : (Jvm.Cond.methodLink "FoldListerLaw" (356 : Nat) ({ cls := "FoldListerModel", name := "fold", desc := "(I)I" } : Jvm.MethodName)) ∈ lw_all := lw_g (lw_at lw_m15 49 rfl) rfl
theorem q3516 : (Jvm.Cond.methodLink "FoldListerLaw" (359 : Nat) ({ cls := "FoldListerModel", name := "closeLevel", desc := "(I)I" } : Jvm.MethodName)) ∈ lw_all := lw_g (lw_at lw_m15 53 rfl) rfl
theorem q3520 : (Jvm.Cond.methodLink "FoldListerLaw" (363 : Nat) ({ cls := "FoldListerModel", name := "openAll", desc := "()I" } : Jvm.MethodName)) ∈ lw_all := lw_g (lw_at lw_m15 57 rfl) rfl
theorem q3524 : (Jvm.Cond.methodLink "FoldListerLaw" (366 : Nat) ({ cls := "FoldListerModel", name := "show", desc := "(I)I" } : Jvm.MethodName)) ∈ lw_all := lw_g (lw_at lw_m15 61 rfl) rfl
theorem q3528 : (Jvm.Cond.methodLink "FoldListerLaw" (369 : Nat) ({ cls := "FoldListerModel", name := "mark", desc := "(II)I" } : Jvm.MethodName)) ∈ lw_all := lw_g (lw_at lw_m15 65 rfl) rfl
theorem q3532 : (Jvm.Cond.methodLink "FoldListerLaw" (372 : Nat) ({ cls := "FoldListerModel", name := "jump", desc := "(I)I" } : Jvm.MethodName)) ∈ lw_all := lw_g (lw_at lw_m15 69 rfl) rfl
theorem q3548 : (Jvm.Cond.methodLink "FoldListerLaw" (376 : Nat) ({ cls := "FoldListerModel", name := "follow", desc := "()I" } : Jvm.MethodName)) ∈ lw_all := lw_g (lw_at lw_m15 85 rfl) rfl
theorem q3552 : (Jvm.Cond.methodLink "FoldListerLaw" (379 : Nat) ({ cls := "FoldListerModel", name := "back", desc := "()I" } : Jvm.MethodName)) ∈ lw_all := lw_g (lw_at lw_m15 89 rfl) rfl
theorem q3560 : (Jvm.Cond.methodLink "FoldListerLaw" (382 : Nat) ({ cls := "FoldListerModel", name := "forward", desc := "()I" } : Jvm.MethodName)) ∈ lw_all := lw_g (lw_at lw_m15 97 rfl) rfl
theorem q3564 : (Jvm.Cond.methodLink "FoldListerLaw" (385 : Nat) ({ cls := "FoldListerModel", name := "undo", desc := "()I" } : Jvm.MethodName)) ∈ lw_all := lw_g (lw_at lw_m15 101 rfl) rfl
theorem q3568 : (Jvm.Cond.methodLink "FoldListerLaw" (389 : Nat) ({ cls := "FoldListerModel", name := "undoable", desc := "()I" } : Jvm.MethodName)) ∈ lw_all := lw_g (lw_at lw_m15 105 rfl) rfl
theorem q3572 : (Jvm.Cond.methodLink "FoldListerLaw" (392 : Nat) ({ cls := "FoldListerModel", name := "save", desc := "(I)I" } : Jvm.MethodName)) ∈ lw_all := lw_g (lw_at lw_m15 109 rfl) rfl
theorem q3576 : (Jvm.Cond.methodLink "FoldListerLaw" (395 : Nat) ({ cls := "FoldListerModel", name := "restore", desc := "(I)I" } : Jvm.MethodName)) ∈ lw_all := lw_g (lw_at lw_m15 113 rfl) rfl
/-! the law's own entry -/
set_option maxRecDepth 100000
abbrev cL_law : ByteArray := code
def dkwL_law_149 : List UInt8 := [21, 6, 133, 148, 153, 0, 5, 3, 172, 167, 0, 3, 132, 4, 6, 167, 241, 140, 4, 172]
abbrev dktL_law_149 : List UInt8 := dkwL_law_149 ++ []
def dkwL_law_148 : List UInt8 := [182, 1, 139, 54, 6, 44, 182, 0, 185, 21, 5, 159, 0, 5, 3, 172, 21, 5, 154, 0, 15, 45, 3, 47]
abbrev dktL_law_148 : List UInt8 := dkwL_law_148 ++ dktL_law_149
def dkwL_law_147 : List UInt8 := [167, 0, 59, 43, 42, 21, 4, 4, 96, 46, 45, 184, 1, 137, 54, 5, 44, 42, 21, 4, 4, 96, 46]
abbrev dktL_law_147 : List UInt8 := dkwL_law_147 ++ dktL_law_148
def dkwL_law_146 : List UInt8 := [159, 0, 5, 3, 172, 21, 5, 154, 0, 15, 45, 3, 47, 21, 6, 133, 148, 153, 0, 5, 3, 172]
abbrev dktL_law_146 : List UInt8 := dkwL_law_146 ++ dktL_law_147
def dkwL_law_145 : List UInt8 := [184, 1, 134, 54, 5, 44, 42, 21, 4, 4, 96, 46, 182, 1, 136, 54, 6, 44, 182, 0, 185, 21, 5]
abbrev dktL_law_145 : List UInt8 := dkwL_law_145 ++ dktL_law_146
def dkwL_law_144 : List UInt8 := [167, 0, 128, 43, 182, 1, 130, 44, 182, 1, 133, 159, 0, 117, 3, 172, 43, 42, 21, 4, 4, 96, 46, 45]
abbrev dktL_law_144 : List UInt8 := dkwL_law_144 ++ dktL_law_145
def dkwL_law_143 : List UInt8 := [159, 0, 5, 3, 172, 21, 5, 154, 0, 15, 45, 3, 47, 21, 6, 133, 148, 153, 0, 5, 3, 172]
abbrev dktL_law_143 : List UInt8 := dkwL_law_143 ++ dktL_law_144
def dkwL_law_142 : List UInt8 := [167, 0, 172, 43, 45, 184, 1, 127, 54, 5, 44, 182, 1, 129, 54, 6, 44, 182, 0, 185, 21, 5]
abbrev dktL_law_142 : List UInt8 := dkwL_law_142 ++ dktL_law_143
def dkwL_law_141 : List UInt8 := [159, 0, 5, 3, 172, 21, 5, 154, 0, 15, 45, 3, 47, 21, 6, 133, 148, 153, 0, 5, 3, 172]
abbrev dktL_law_141 : List UInt8 := dkwL_law_141 ++ dktL_law_142
def dkwL_law_140 : List UInt8 := [167, 0, 216, 43, 45, 184, 1, 124, 54, 5, 44, 182, 1, 126, 54, 6, 44, 182, 0, 185, 21, 5]
abbrev dktL_law_140 : List UInt8 := dkwL_law_140 ++ dktL_law_141
def dkwL_law_139 : List UInt8 := [159, 0, 5, 3, 172, 21, 5, 154, 0, 15, 45, 3, 47, 21, 6, 133, 148, 153, 0, 5, 3, 172]
abbrev dktL_law_139 : List UInt8 := dkwL_law_139 ++ dktL_law_140
def dkwL_law_138 : List UInt8 := [167, 1, 4, 43, 45, 184, 1, 121, 54, 5, 44, 182, 1, 123, 54, 6, 44, 182, 0, 185, 21, 5]
abbrev dktL_law_138 : List UInt8 := dkwL_law_138 ++ dktL_law_139
def dkwL_law_137 : List UInt8 := [159, 0, 5, 3, 172, 21, 5, 154, 0, 15, 45, 3, 47, 21, 6, 133, 148, 153, 0, 5, 3, 172]
abbrev dktL_law_137 : List UInt8 := dkwL_law_137 ++ dktL_law_138
def dkwL_law_136 : List UInt8 := [167, 1, 48, 43, 45, 184, 1, 117, 54, 5, 44, 182, 1, 120, 54, 6, 44, 182, 0, 185, 21, 5]
abbrev dktL_law_136 : List UInt8 := dkwL_law_136 ++ dktL_law_137
def dkwL_law_135 : List UInt8 := [21, 5, 159, 0, 5, 3, 172, 21, 5, 154, 0, 15, 45, 3, 47, 21, 6, 133, 148, 153, 0, 5, 3, 172]
abbrev dktL_law_135 : List UInt8 := dkwL_law_135 ++ dktL_law_136
def dkwL_law_134 : List UInt8 := [46, 45, 184, 1, 114, 54, 5, 44, 42, 21, 4, 4, 96, 46, 182, 1, 116, 54, 6, 44, 182, 0, 185]
abbrev dktL_law_134 : List UInt8 := dkwL_law_134 ++ dktL_law_135
def dkwL_law_133 : List UInt8 := [154, 0, 15, 45, 3, 47, 21, 6, 133, 148, 153, 0, 5, 3, 172, 167, 1, 104, 43, 42, 21, 4, 4, 96]
abbrev dktL_law_133 : List UInt8 := dkwL_law_133 ++ dktL_law_134
def dkwL_law_132 : List UInt8 := [42, 21, 4, 5, 96, 46, 182, 1, 113, 54, 6, 44, 182, 0, 185, 21, 5, 159, 0, 5, 3, 172, 21, 5]
abbrev dktL_law_132 : List UInt8 := dkwL_law_132 ++ dktL_law_133
def dkwL_law_131 : List UInt8 := [21, 4, 4, 96, 46, 42, 21, 4, 5, 96, 46, 45, 184, 1, 111, 54, 5, 44, 42, 21, 4, 4, 96, 46]
abbrev dktL_law_131 : List UInt8 := dkwL_law_131 ++ dktL_law_132
def dkwL_law_130 : List UInt8 := [172, 21, 5, 154, 0, 15, 45, 3, 47, 21, 6, 133, 148, 153, 0, 5, 3, 172, 167, 1, 172, 43, 42]
abbrev dktL_law_130 : List UInt8 := dkwL_law_130 ++ dktL_law_131
def dkwL_law_129 : List UInt8 := [54, 5, 44, 42, 21, 4, 4, 96, 46, 182, 1, 110, 54, 6, 44, 182, 0, 185, 21, 5, 159, 0, 5, 3]
abbrev dktL_law_129 : List UInt8 := dkwL_law_129 ++ dktL_law_130
def dkwL_law_128 : List UInt8 := [182, 1, 104, 44, 182, 1, 107, 159, 1, 230, 3, 172, 43, 42, 21, 4, 4, 96, 46, 45, 184, 1, 108]
abbrev dktL_law_128 : List UInt8 := dkwL_law_128 ++ dktL_law_129
def dkwL_law_127 : List UInt8 := [172, 21, 5, 154, 0, 15, 45, 3, 47, 21, 6, 133, 148, 153, 0, 5, 3, 172, 167, 1, 241, 43]
abbrev dktL_law_127 : List UInt8 := dkwL_law_127 ++ dktL_law_128
def dkwL_law_126 : List UInt8 := [54, 5, 44, 42, 21, 4, 4, 96, 46, 182, 1, 103, 54, 6, 44, 182, 0, 185, 21, 5, 159, 0, 5, 3]
abbrev dktL_law_126 : List UInt8 := dkwL_law_126 ++ dktL_law_127
def dkwL_law_125 : List UInt8 := [21, 6, 133, 148, 153, 0, 5, 3, 172, 167, 2, 41, 43, 42, 21, 4, 4, 96, 46, 45, 184, 1, 101]
abbrev dktL_law_125 : List UInt8 := dkwL_law_125 ++ dktL_law_126
def dkwL_law_124 : List UInt8 := [182, 1, 100, 54, 6, 44, 182, 0, 185, 21, 5, 159, 0, 5, 3, 172, 21, 5, 154, 0, 15, 45, 3, 47]
abbrev dktL_law_124 : List UInt8 := dkwL_law_124 ++ dktL_law_125
def dkwL_law_123 : List UInt8 := [167, 2, 97, 43, 42, 21, 4, 4, 96, 46, 45, 184, 1, 98, 54, 5, 44, 42, 21, 4, 4, 96, 46]
abbrev dktL_law_123 : List UInt8 := dkwL_law_123 ++ dktL_law_124
def dkwL_law_122 : List UInt8 := [21, 5, 154, 0, 22, 45, 3, 47, 21, 6, 153, 0, 7, 10, 167, 0, 4, 9, 148, 153, 0, 5, 3, 172]
abbrev dktL_law_122 : List UInt8 := dkwL_law_122 ++ dktL_law_123
def dkwL_law_121 : List UInt8 := [153, 0, 7, 4, 167, 0, 4, 3, 182, 1, 97, 54, 6, 44, 182, 0, 185, 21, 5, 159, 0, 5, 3, 172]
abbrev dktL_law_121 : List UInt8 := dkwL_law_121 ++ dktL_law_122
def dkwL_law_120 : List UInt8 := [4, 167, 0, 4, 3, 45, 184, 1, 95, 54, 5, 44, 42, 21, 4, 4, 96, 46, 42, 21, 4, 5, 96, 46]
abbrev dktL_law_120 : List UInt8 := dkwL_law_120 ++ dktL_law_121
def dkwL_law_119 : List UInt8 := [153, 0, 5, 3, 172, 167, 2, 188, 43, 42, 21, 4, 4, 96, 46, 42, 21, 4, 5, 96, 46, 153, 0, 7]
abbrev dktL_law_119 : List UInt8 := dkwL_law_119 ++ dktL_law_120
def dkwL_law_118 : List UInt8 := [182, 0, 185, 21, 5, 159, 0, 5, 3, 172, 21, 5, 154, 0, 15, 45, 3, 47, 21, 6, 133, 148]
abbrev dktL_law_118 : List UInt8 := dkwL_law_118 ++ dktL_law_119
def dkwL_law_117 : List UInt8 := [184, 1, 92, 54, 5, 44, 42, 21, 4, 4, 96, 46, 42, 21, 4, 5, 96, 46, 182, 1, 94, 54, 6, 44]
abbrev dktL_law_117 : List UInt8 := dkwL_law_117 ++ dktL_law_118
def dkwL_law_116 : List UInt8 := [153, 0, 5, 3, 172, 167, 3, 0, 43, 42, 21, 4, 4, 96, 46, 42, 21, 4, 5, 96, 46, 45]
abbrev dktL_law_116 : List UInt8 := dkwL_law_116 ++ dktL_law_117
def dkwL_law_115 : List UInt8 := [182, 0, 185, 21, 5, 159, 0, 5, 3, 172, 21, 5, 154, 0, 15, 45, 3, 47, 21, 6, 133, 148]
abbrev dktL_law_115 : List UInt8 := dkwL_law_115 ++ dktL_law_116
def dkwL_law_114 : List UInt8 := [21, 4, 4, 96, 46, 42, 21, 4, 5, 96, 46, 42, 21, 4, 6, 96, 46, 182, 1, 91, 54, 6, 44]
abbrev dktL_law_114 : List UInt8 := dkwL_law_114 ++ dktL_law_115
def dkwL_law_113 : List UInt8 := [4, 96, 46, 42, 21, 4, 5, 96, 46, 42, 21, 4, 6, 96, 46, 45, 184, 1, 89, 54, 5, 44, 42]
abbrev dktL_law_113 : List UInt8 := dkwL_law_113 ++ dktL_law_114
def dkwL_law_112 : List UInt8 := [21, 5, 154, 0, 15, 45, 3, 47, 21, 6, 133, 148, 153, 0, 5, 3, 172, 167, 3, 80, 43, 42, 21, 4]
abbrev dktL_law_112 : List UInt8 := dkwL_law_112 ++ dktL_law_113
def dkwL_law_111 : List UInt8 := [96, 46, 42, 21, 4, 6, 96, 46, 182, 1, 88, 54, 6, 44, 182, 0, 185, 21, 5, 159, 0, 5, 3, 172]
abbrev dktL_law_111 : List UInt8 := dkwL_law_111 ++ dktL_law_112
def dkwL_law_110 : List UInt8 := [46, 42, 21, 4, 6, 96, 46, 45, 184, 1, 85, 54, 5, 44, 42, 21, 4, 4, 96, 46, 42, 21, 4, 5]
abbrev dktL_law_110 : List UInt8 := dkwL_law_110 ++ dktL_law_111
def dkwL_law_109 : List UInt8 := [21, 6, 133, 148, 153, 0, 5, 3, 172, 167, 3, 160, 43, 42, 21, 4, 4, 96, 46, 42, 21, 4, 5, 96]
abbrev dktL_law_109 : List UInt8 := dkwL_law_109 ++ dktL_law_110
def dkwL_law_108 : List UInt8 := [182, 1, 84, 54, 6, 44, 182, 0, 185, 21, 5, 159, 0, 5, 3, 172, 21, 5, 154, 0, 15, 45, 3, 47]
abbrev dktL_law_108 : List UInt8 := dkwL_law_108 ++ dktL_law_109
def dkwL_law_107 : List UInt8 := [5, 96, 46, 45, 184, 1, 82, 54, 5, 44, 42, 21, 4, 4, 96, 46, 42, 21, 4, 5, 96, 46]
abbrev dktL_law_107 : List UInt8 := dkwL_law_107 ++ dktL_law_108
def dkwL_law_106 : List UInt8 := [3, 47, 21, 6, 133, 148, 153, 0, 5, 3, 172, 167, 3, 228, 43, 42, 21, 4, 4, 96, 46, 42, 21, 4]
abbrev dktL_law_106 : List UInt8 := dkwL_law_106 ++ dktL_law_107
def dkwL_law_105 : List UInt8 := [96, 46, 182, 1, 81, 54, 6, 44, 182, 0, 185, 21, 5, 159, 0, 5, 3, 172, 21, 5, 154, 0, 15, 45]
abbrev dktL_law_105 : List UInt8 := dkwL_law_105 ++ dktL_law_106
def dkwL_law_104 : List UInt8 := [46, 42, 21, 4, 5, 96, 46, 45, 184, 1, 79, 54, 5, 44, 42, 21, 4, 4, 96, 46, 42, 21, 4, 5]
abbrev dktL_law_104 : List UInt8 := dkwL_law_104 ++ dktL_law_105
def dkwL_law_103 : List UInt8 := [154, 0, 15, 45, 3, 47, 21, 6, 133, 148, 153, 0, 5, 3, 172, 167, 4, 40, 43, 42, 21, 4, 4, 96]
abbrev dktL_law_103 : List UInt8 := dkwL_law_103 ++ dktL_law_104
def dkwL_law_102 : List UInt8 := [21, 4, 4, 96, 46, 182, 1, 78, 54, 6, 44, 182, 0, 185, 21, 5, 159, 0, 5, 3, 172, 21, 5]
abbrev dktL_law_102 : List UInt8 := dkwL_law_102 ++ dktL_law_103
def dkwL_law_101 : List UInt8 := [153, 0, 5, 3, 172, 167, 4, 96, 43, 42, 21, 4, 4, 96, 46, 45, 184, 1, 76, 54, 5, 44, 42]
abbrev dktL_law_101 : List UInt8 := dkwL_law_101 ++ dktL_law_102
def dkwL_law_100 : List UInt8 := [182, 0, 185, 21, 5, 159, 0, 5, 3, 172, 21, 5, 154, 0, 15, 45, 3, 47, 21, 6, 133, 148]
abbrev dktL_law_100 : List UInt8 := dkwL_law_100 ++ dktL_law_101
def dkwL_law_99 : List UInt8 := [184, 1, 73, 54, 5, 44, 42, 21, 4, 4, 96, 46, 42, 21, 4, 5, 96, 46, 182, 1, 75, 54, 6, 44]
abbrev dktL_law_99 : List UInt8 := dkwL_law_99 ++ dktL_law_100
def dkwL_law_98 : List UInt8 := [153, 0, 5, 3, 172, 167, 4, 164, 43, 42, 21, 4, 4, 96, 46, 42, 21, 4, 5, 96, 46, 45]
abbrev dktL_law_98 : List UInt8 := dkwL_law_98 ++ dktL_law_99
def dkwL_law_97 : List UInt8 := [182, 0, 185, 21, 5, 159, 0, 5, 3, 172, 21, 5, 154, 0, 15, 45, 3, 47, 21, 6, 133, 148]
abbrev dktL_law_97 : List UInt8 := dkwL_law_97 ++ dktL_law_98
def dkwL_law_96 : List UInt8 := [184, 1, 70, 54, 5, 44, 42, 21, 4, 4, 96, 46, 42, 21, 4, 5, 96, 46, 182, 1, 72, 54, 6, 44]
abbrev dktL_law_96 : List UInt8 := dkwL_law_96 ++ dktL_law_97
def dkwL_law_95 : List UInt8 := [153, 0, 5, 3, 172, 167, 4, 232, 43, 42, 21, 4, 4, 96, 46, 42, 21, 4, 5, 96, 46, 45]
abbrev dktL_law_95 : List UInt8 := dkwL_law_95 ++ dktL_law_96
def dkwL_law_94 : List UInt8 := [182, 0, 185, 21, 5, 159, 0, 5, 3, 172, 21, 5, 154, 0, 15, 45, 3, 47, 21, 6, 133, 148]
abbrev dktL_law_94 : List UInt8 := dkwL_law_94 ++ dktL_law_95
def dkwL_law_93 : List UInt8 := [21, 4, 4, 96, 46, 45, 184, 1, 67, 54, 5, 44, 42, 21, 4, 4, 96, 46, 182, 1, 69, 54, 6, 44]
abbrev dktL_law_93 : List UInt8 := dkwL_law_93 ++ dktL_law_94
def dkwL_law_92 : List UInt8 := [148, 153, 0, 5, 3, 172, 167, 5, 45, 43, 182, 1, 63, 44, 182, 1, 66, 159, 5, 34, 3, 172, 43, 42]
abbrev dktL_law_92 : List UInt8 := dkwL_law_92 ++ dktL_law_93
def dkwL_law_91 : List UInt8 := [54, 6, 44, 182, 0, 185, 21, 5, 159, 0, 5, 3, 172, 21, 5, 154, 0, 15, 45, 3, 47, 21, 6, 133]
abbrev dktL_law_91 : List UInt8 := dkwL_law_91 ++ dktL_law_92
def dkwL_law_90 : List UInt8 := [46, 45, 184, 1, 60, 54, 5, 44, 42, 21, 4, 4, 96, 46, 42, 21, 4, 5, 96, 46, 182, 1, 62]
abbrev dktL_law_90 : List UInt8 := dkwL_law_90 ++ dktL_law_91
def dkwL_law_89 : List UInt8 := [21, 6, 133, 148, 153, 0, 5, 3, 172, 167, 5, 113, 43, 42, 21, 4, 4, 96, 46, 42, 21, 4, 5, 96]
abbrev dktL_law_89 : List UInt8 := dkwL_law_89 ++ dktL_law_90
def dkwL_law_88 : List UInt8 := [182, 1, 59, 54, 6, 44, 182, 0, 185, 21, 5, 159, 0, 5, 3, 172, 21, 5, 154, 0, 15, 45, 3, 47]
abbrev dktL_law_88 : List UInt8 := dkwL_law_88 ++ dktL_law_89
def dkwL_law_87 : List UInt8 := [167, 5, 169, 43, 42, 21, 4, 4, 96, 46, 45, 184, 1, 57, 54, 5, 44, 42, 21, 4, 4, 96, 46]
abbrev dktL_law_87 : List UInt8 := dkwL_law_87 ++ dktL_law_88
def dkwL_law_86 : List UInt8 := [159, 0, 5, 3, 172, 21, 5, 154, 0, 15, 45, 3, 47, 21, 6, 133, 148, 153, 0, 5, 3, 172]
abbrev dktL_law_86 : List UInt8 := dkwL_law_86 ++ dktL_law_87
def dkwL_law_85 : List UInt8 := [21, 4, 4, 96, 46, 42, 21, 4, 5, 96, 46, 182, 1, 56, 54, 6, 44, 182, 0, 185, 21, 5]
abbrev dktL_law_85 : List UInt8 := dkwL_law_85 ++ dktL_law_86
def dkwL_law_84 : List UInt8 := [167, 5, 237, 43, 42, 21, 4, 4, 96, 46, 42, 21, 4, 5, 96, 46, 45, 184, 1, 54, 54, 5, 44, 42]
abbrev dktL_law_84 : List UInt8 := dkwL_law_84 ++ dktL_law_85
def dkwL_law_83 : List UInt8 := [159, 0, 5, 3, 172, 21, 5, 154, 0, 15, 45, 3, 47, 21, 6, 133, 148, 153, 0, 5, 3, 172]
abbrev dktL_law_83 : List UInt8 := dkwL_law_83 ++ dktL_law_84
def dkwL_law_82 : List UInt8 := [184, 1, 51, 54, 5, 44, 42, 21, 4, 4, 96, 46, 182, 1, 53, 54, 6, 44, 182, 0, 185, 21, 5]
abbrev dktL_law_82 : List UInt8 := dkwL_law_82 ++ dktL_law_83
def dkwL_law_81 : List UInt8 := [172, 43, 182, 1, 47, 44, 182, 1, 50, 159, 6, 39, 3, 172, 43, 42, 21, 4, 4, 96, 46, 45]
abbrev dktL_law_81 : List UInt8 := dkwL_law_81 ++ dktL_law_82
def dkwL_law_80 : List UInt8 := [21, 6, 133, 148, 153, 0, 5, 3, 172, 167, 6, 63, 43, 182, 1, 43, 44, 182, 1, 46, 159, 6, 52, 3]
abbrev dktL_law_80 : List UInt8 := dkwL_law_80 ++ dktL_law_81
def dkwL_law_79 : List UInt8 := [182, 1, 42, 54, 6, 44, 182, 0, 185, 21, 5, 159, 0, 5, 3, 172, 21, 5, 154, 0, 15, 45, 3, 47]
abbrev dktL_law_79 : List UInt8 := dkwL_law_79 ++ dktL_law_80
def dkwL_law_78 : List UInt8 := [167, 6, 119, 43, 42, 21, 4, 4, 96, 46, 45, 184, 1, 40, 54, 5, 44, 42, 21, 4, 4, 96, 46]
abbrev dktL_law_78 : List UInt8 := dkwL_law_78 ++ dktL_law_79
def dkwL_law_77 : List UInt8 := [159, 0, 5, 3, 172, 21, 5, 154, 0, 15, 45, 3, 47, 21, 6, 133, 148, 153, 0, 5, 3, 172]
abbrev dktL_law_77 : List UInt8 := dkwL_law_77 ++ dktL_law_78
def dkwL_law_76 : List UInt8 := [21, 4, 5, 96, 46, 153, 0, 7, 4, 167, 0, 4, 3, 182, 1, 39, 54, 6, 44, 182, 0, 185, 21, 5]
abbrev dktL_law_76 : List UInt8 := dkwL_law_76 ++ dktL_law_77
def dkwL_law_75 : List UInt8 := [46, 153, 0, 7, 4, 167, 0, 4, 3, 45, 184, 1, 37, 54, 5, 44, 42, 21, 4, 4, 96, 46, 42]
abbrev dktL_law_75 : List UInt8 := dkwL_law_75 ++ dktL_law_76
def dkwL_law_74 : List UInt8 := [21, 6, 133, 148, 153, 0, 5, 3, 172, 167, 6, 203, 43, 42, 21, 4, 4, 96, 46, 42, 21, 4, 5, 96]
abbrev dktL_law_74 : List UInt8 := dkwL_law_74 ++ dktL_law_75
def dkwL_law_73 : List UInt8 := [182, 1, 36, 54, 6, 44, 182, 0, 185, 21, 5, 159, 0, 5, 3, 172, 21, 5, 154, 0, 15, 45, 3, 47]
abbrev dktL_law_73 : List UInt8 := dkwL_law_73 ++ dktL_law_74
def dkwL_law_72 : List UInt8 := [54, 5, 44, 42, 21, 4, 4, 96, 46, 153, 0, 7, 4, 167, 0, 4, 3, 42, 21, 4, 5, 96, 46]
abbrev dktL_law_72 : List UInt8 := dkwL_law_72 ++ dktL_law_73
def dkwL_law_71 : List UInt8 := [21, 4, 4, 96, 46, 153, 0, 7, 4, 167, 0, 4, 3, 42, 21, 4, 5, 96, 46, 45, 184, 1, 33]
abbrev dktL_law_71 : List UInt8 := dkwL_law_71 ++ dktL_law_72
def dkwL_law_70 : List UInt8 := [148, 153, 0, 5, 3, 172, 167, 7, 44, 43, 182, 1, 29, 44, 182, 1, 32, 159, 7, 33, 3, 172, 43, 42]
abbrev dktL_law_70 : List UInt8 := dkwL_law_70 ++ dktL_law_71
def dkwL_law_69 : List UInt8 := [54, 6, 44, 182, 0, 185, 21, 5, 159, 0, 5, 3, 172, 21, 5, 154, 0, 15, 45, 3, 47, 21, 6, 133]
abbrev dktL_law_69 : List UInt8 := dkwL_law_69 ++ dktL_law_70
def dkwL_law_68 : List UInt8 := [46, 45, 184, 1, 26, 54, 5, 44, 42, 21, 4, 4, 96, 46, 42, 21, 4, 5, 96, 46, 182, 1, 28]
abbrev dktL_law_68 : List UInt8 := dkwL_law_68 ++ dktL_law_69
def dkwL_law_67 : List UInt8 := [21, 6, 133, 148, 153, 0, 5, 3, 172, 167, 7, 112, 43, 42, 21, 4, 4, 96, 46, 42, 21, 4, 5, 96]
abbrev dktL_law_67 : List UInt8 := dkwL_law_67 ++ dktL_law_68
def dkwL_law_66 : List UInt8 := [182, 1, 25, 54, 6, 44, 182, 0, 185, 21, 5, 159, 0, 5, 3, 172, 21, 5, 154, 0, 15, 45, 3, 47]
abbrev dktL_law_66 : List UInt8 := dkwL_law_66 ++ dktL_law_67
def dkwL_law_65 : List UInt8 := [167, 7, 168, 43, 42, 21, 4, 4, 96, 46, 45, 184, 1, 23, 54, 5, 44, 42, 21, 4, 4, 96, 46]
abbrev dktL_law_65 : List UInt8 := dkwL_law_65 ++ dktL_law_66
def dkwL_law_64 : List UInt8 := [21, 5, 159, 0, 5, 3, 172, 21, 5, 154, 0, 15, 45, 3, 47, 21, 6, 133, 148, 153, 0, 5, 3, 172]
abbrev dktL_law_64 : List UInt8 := dkwL_law_64 ++ dktL_law_65
def dkwL_law_63 : List UInt8 := [46, 45, 184, 1, 20, 54, 5, 44, 42, 21, 4, 4, 96, 46, 182, 1, 22, 54, 6, 44, 182, 0, 185]
abbrev dktL_law_63 : List UInt8 := dkwL_law_63 ++ dktL_law_64
def dkwL_law_62 : List UInt8 := [154, 0, 15, 45, 3, 47, 21, 6, 133, 148, 153, 0, 5, 3, 172, 167, 7, 224, 43, 42, 21, 4, 4, 96]
abbrev dktL_law_62 : List UInt8 := dkwL_law_62 ++ dktL_law_63
def dkwL_law_61 : List UInt8 := [21, 4, 4, 96, 46, 182, 1, 19, 54, 6, 44, 182, 0, 185, 21, 5, 159, 0, 5, 3, 172, 21, 5]
abbrev dktL_law_61 : List UInt8 := dkwL_law_61 ++ dktL_law_62
def dkwL_law_60 : List UInt8 := [153, 0, 5, 3, 172, 167, 8, 24, 43, 42, 21, 4, 4, 96, 46, 45, 184, 1, 17, 54, 5, 44, 42]
abbrev dktL_law_60 : List UInt8 := dkwL_law_60 ++ dktL_law_61
def dkwL_law_59 : List UInt8 := [182, 0, 185, 21, 5, 159, 0, 5, 3, 172, 21, 5, 154, 0, 15, 45, 3, 47, 21, 6, 133, 148]
abbrev dktL_law_59 : List UInt8 := dkwL_law_59 ++ dktL_law_60
def dkwL_law_58 : List UInt8 := [4, 96, 46, 45, 184, 1, 14, 54, 5, 44, 42, 21, 4, 4, 96, 46, 182, 1, 16, 54, 6, 44]
abbrev dktL_law_58 : List UInt8 := dkwL_law_58 ++ dktL_law_59
def dkwL_law_57 : List UInt8 := [21, 5, 154, 0, 15, 45, 3, 47, 21, 6, 133, 148, 153, 0, 5, 3, 172, 167, 8, 80, 43, 42, 21, 4]
abbrev dktL_law_57 : List UInt8 := dkwL_law_57 ++ dktL_law_58
def dkwL_law_56 : List UInt8 := [153, 0, 7, 4, 167, 0, 4, 3, 182, 1, 13, 54, 6, 44, 182, 0, 185, 21, 5, 159, 0, 5, 3, 172]
abbrev dktL_law_56 : List UInt8 := dkwL_law_56 ++ dktL_law_57
def dkwL_law_55 : List UInt8 := [4, 167, 0, 4, 3, 45, 184, 1, 10, 54, 5, 44, 42, 21, 4, 4, 96, 46, 42, 21, 4, 5, 96, 46]
abbrev dktL_law_55 : List UInt8 := dkwL_law_55 ++ dktL_law_56
def dkwL_law_54 : List UInt8 := [153, 0, 5, 3, 172, 167, 8, 164, 43, 42, 21, 4, 4, 96, 46, 42, 21, 4, 5, 96, 46, 153, 0, 7]
abbrev dktL_law_54 : List UInt8 := dkwL_law_54 ++ dktL_law_55
def dkwL_law_53 : List UInt8 := [182, 0, 185, 21, 5, 159, 0, 5, 3, 172, 21, 5, 154, 0, 15, 45, 3, 47, 21, 6, 133, 148]
abbrev dktL_law_53 : List UInt8 := dkwL_law_53 ++ dktL_law_54
def dkwL_law_52 : List UInt8 := [21, 4, 4, 96, 46, 45, 184, 1, 7, 54, 5, 44, 42, 21, 4, 4, 96, 46, 182, 1, 9, 54, 6, 44]
abbrev dktL_law_52 : List UInt8 := dkwL_law_52 ++ dktL_law_53
def dkwL_law_51 : List UInt8 := [172, 21, 5, 154, 0, 15, 45, 3, 47, 21, 6, 133, 148, 153, 0, 5, 3, 172, 167, 8, 220, 43, 42]
abbrev dktL_law_51 : List UInt8 := dkwL_law_51 ++ dktL_law_52
def dkwL_law_50 : List UInt8 := [4, 96, 46, 42, 21, 4, 5, 96, 46, 182, 1, 6, 54, 6, 44, 182, 0, 185, 21, 5, 159, 0, 5, 3]
abbrev dktL_law_50 : List UInt8 := dkwL_law_50 ++ dktL_law_51
def dkwL_law_49 : List UInt8 := [172, 43, 42, 21, 4, 4, 96, 46, 42, 21, 4, 5, 96, 46, 45, 184, 1, 4, 54, 5, 44, 42, 21, 4]
abbrev dktL_law_49 : List UInt8 := dkwL_law_49 ++ dktL_law_50
def dkwL_law_48 : List UInt8 := [21, 6, 133, 148, 153, 0, 5, 3, 172, 167, 9, 45, 43, 182, 1, 0, 44, 182, 1, 3, 159, 9, 34, 3]
abbrev dktL_law_48 : List UInt8 := dkwL_law_48 ++ dktL_law_49
def dkwL_law_47 : List UInt8 := [182, 0, 255, 54, 6, 44, 182, 0, 185, 21, 5, 159, 0, 5, 3, 172, 21, 5, 154, 0, 15, 45, 3, 47]
abbrev dktL_law_47 : List UInt8 := dkwL_law_47 ++ dktL_law_48
def dkwL_law_46 : List UInt8 := [167, 9, 101, 43, 42, 21, 4, 4, 96, 46, 45, 184, 0, 253, 54, 5, 44, 42, 21, 4, 4, 96, 46]
abbrev dktL_law_46 : List UInt8 := dkwL_law_46 ++ dktL_law_47
def dkwL_law_45 : List UInt8 := [159, 0, 5, 3, 172, 21, 5, 154, 0, 15, 45, 3, 47, 21, 6, 133, 148, 153, 0, 5, 3, 172]
abbrev dktL_law_45 : List UInt8 := dkwL_law_45 ++ dktL_law_46
def dkwL_law_44 : List UInt8 := [21, 4, 4, 96, 46, 42, 21, 4, 5, 96, 46, 182, 0, 252, 54, 6, 44, 182, 0, 185, 21, 5]
abbrev dktL_law_44 : List UInt8 := dkwL_law_44 ++ dktL_law_45
def dkwL_law_43 : List UInt8 := [167, 9, 169, 43, 42, 21, 4, 4, 96, 46, 42, 21, 4, 5, 96, 46, 45, 184, 0, 250, 54, 5, 44, 42]
abbrev dktL_law_43 : List UInt8 := dkwL_law_43 ++ dktL_law_44
def dkwL_law_42 : List UInt8 := [21, 5, 159, 0, 5, 3, 172, 21, 5, 154, 0, 15, 45, 3, 47, 21, 6, 133, 148, 153, 0, 5, 3, 172]
abbrev dktL_law_42 : List UInt8 := dkwL_law_42 ++ dktL_law_43
def dkwL_law_41 : List UInt8 := [46, 45, 184, 0, 247, 54, 5, 44, 42, 21, 4, 4, 96, 46, 182, 0, 249, 54, 6, 44, 182, 0, 185]
abbrev dktL_law_41 : List UInt8 := dkwL_law_41 ++ dktL_law_42
def dkwL_law_40 : List UInt8 := [154, 0, 15, 45, 3, 47, 21, 6, 133, 148, 153, 0, 5, 3, 172, 167, 9, 225, 43, 42, 21, 4, 4, 96]
abbrev dktL_law_40 : List UInt8 := dkwL_law_40 ++ dktL_law_41
def dkwL_law_39 : List UInt8 := [21, 4, 4, 96, 46, 182, 0, 246, 54, 6, 44, 182, 0, 185, 21, 5, 159, 0, 5, 3, 172, 21, 5]
abbrev dktL_law_39 : List UInt8 := dkwL_law_39 ++ dktL_law_40
def dkwL_law_38 : List UInt8 := [153, 0, 5, 3, 172, 167, 10, 25, 43, 42, 21, 4, 4, 96, 46, 45, 184, 0, 244, 54, 5, 44, 42]
abbrev dktL_law_38 : List UInt8 := dkwL_law_38 ++ dktL_law_39
def dkwL_law_37 : List UInt8 := [182, 0, 185, 21, 5, 159, 0, 5, 3, 172, 21, 5, 154, 0, 15, 45, 3, 47, 21, 6, 133, 148]
abbrev dktL_law_37 : List UInt8 := dkwL_law_37 ++ dktL_law_38
def dkwL_law_36 : List UInt8 := [184, 0, 241, 54, 5, 44, 42, 21, 4, 4, 96, 46, 42, 21, 4, 5, 96, 46, 182, 0, 243, 54, 6, 44]
abbrev dktL_law_36 : List UInt8 := dkwL_law_36 ++ dktL_law_37
def dkwL_law_35 : List UInt8 := [154, 0, 5, 3, 172, 167, 10, 93, 43, 42, 21, 4, 4, 96, 46, 42, 21, 4, 5, 96, 46, 45]
abbrev dktL_law_35 : List UInt8 := dkwL_law_35 ++ dktL_law_36
def dkwL_law_34 : List UInt8 := [57, 7, 24, 5, 24, 7, 151, 153, 0, 21, 24, 5, 24, 5, 151, 153, 0, 11, 24, 7, 24, 7, 151]
abbrev dktL_law_34 : List UInt8 := dkwL_law_34 ++ dktL_law_35
def dkwL_law_33 : List UInt8 := [24, 7, 151, 154, 0, 5, 3, 172, 167, 10, 136, 43, 182, 0, 236, 141, 57, 5, 44, 182, 0, 240, 141]
abbrev dktL_law_33 : List UInt8 := dkwL_law_33 ++ dktL_law_34
def dkwL_law_32 : List UInt8 := [44, 182, 0, 235, 57, 7, 24, 5, 24, 7, 151, 153, 0, 21, 24, 5, 24, 5, 151, 153, 0, 11, 24, 7]
abbrev dktL_law_32 : List UInt8 := dkwL_law_32 ++ dktL_law_33
def dkwL_law_31 : List UInt8 := [154, 0, 15, 45, 3, 47, 21, 6, 133, 148, 153, 0, 5, 3, 172, 167, 10, 177, 43, 182, 0, 231, 57, 5]
abbrev dktL_law_31 : List UInt8 := dkwL_law_31 ++ dktL_law_32
def dkwL_law_30 : List UInt8 := [4, 167, 0, 4, 3, 182, 0, 230, 54, 6, 44, 182, 0, 185, 21, 5, 159, 0, 5, 3, 172, 21, 5]
abbrev dktL_law_30 : List UInt8 := dkwL_law_30 ++ dktL_law_31
def dkwL_law_29 : List UInt8 := [54, 5, 44, 42, 21, 4, 4, 96, 46, 42, 21, 4, 5, 96, 46, 42, 21, 4, 6, 96, 46, 153, 0, 7]
abbrev dktL_law_29 : List UInt8 := dkwL_law_29 ++ dktL_law_30
def dkwL_law_28 : List UInt8 := [21, 4, 5, 96, 46, 42, 21, 4, 6, 96, 46, 153, 0, 7, 4, 167, 0, 4, 3, 45, 184, 0, 227]
abbrev dktL_law_28 : List UInt8 := dkwL_law_28 ++ dktL_law_29
def dkwL_law_27 : List UInt8 := [167, 11, 30, 43, 182, 0, 223, 44, 182, 0, 226, 159, 11, 19, 3, 172, 43, 42, 21, 4, 4, 96, 46, 42]
abbrev dktL_law_27 : List UInt8 := dkwL_law_27 ++ dktL_law_28
def dkwL_law_26 : List UInt8 := [159, 0, 5, 3, 172, 21, 5, 154, 0, 15, 45, 3, 47, 21, 6, 133, 148, 153, 0, 5, 3, 172]
abbrev dktL_law_26 : List UInt8 := dkwL_law_26 ++ dktL_law_27
def dkwL_law_25 : List UInt8 := [21, 4, 4, 96, 46, 42, 21, 4, 5, 96, 46, 182, 0, 222, 54, 6, 44, 182, 0, 185, 21, 5]
abbrev dktL_law_25 : List UInt8 := dkwL_law_25 ++ dktL_law_26
def dkwL_law_24 : List UInt8 := [167, 11, 98, 43, 42, 21, 4, 4, 96, 46, 42, 21, 4, 5, 96, 46, 45, 184, 0, 220, 54, 5, 44, 42]
abbrev dktL_law_24 : List UInt8 := dkwL_law_24 ++ dktL_law_25
def dkwL_law_23 : List UInt8 := [21, 5, 159, 0, 5, 3, 172, 21, 5, 154, 0, 15, 45, 3, 47, 21, 6, 133, 148, 153, 0, 5, 3, 172]
abbrev dktL_law_23 : List UInt8 := dkwL_law_23 ++ dktL_law_24
def dkwL_law_22 : List UInt8 := [46, 45, 184, 0, 217, 54, 5, 44, 42, 21, 4, 4, 96, 46, 182, 0, 219, 54, 6, 44, 182, 0, 185]
abbrev dktL_law_22 : List UInt8 := dkwL_law_22 ++ dktL_law_23
def dkwL_law_21 : List UInt8 := [154, 0, 15, 45, 3, 47, 21, 6, 133, 148, 153, 0, 5, 3, 172, 167, 11, 154, 43, 42, 21, 4, 4, 96]
abbrev dktL_law_21 : List UInt8 := dkwL_law_21 ++ dktL_law_22
def dkwL_law_20 : List UInt8 := [21, 4, 4, 96, 46, 182, 0, 216, 54, 6, 44, 182, 0, 185, 21, 5, 159, 0, 5, 3, 172, 21, 5]
abbrev dktL_law_20 : List UInt8 := dkwL_law_20 ++ dktL_law_21
def dkwL_law_19 : List UInt8 := [46, 182, 0, 213, 159, 11, 212, 3, 172, 43, 42, 21, 4, 4, 96, 46, 45, 184, 0, 214, 54, 5, 44, 42]
abbrev dktL_law_19 : List UInt8 := dkwL_law_19 ++ dktL_law_20
def dkwL_law_18 : List UInt8 := [153, 0, 5, 3, 172, 167, 11, 235, 43, 42, 21, 4, 4, 96, 46, 182, 0, 210, 44, 42, 21, 4, 4, 96]
abbrev dktL_law_18 : List UInt8 := dkwL_law_18 ++ dktL_law_19
def dkwL_law_17 : List UInt8 := [182, 0, 185, 21, 5, 159, 0, 5, 3, 172, 21, 5, 154, 0, 15, 45, 3, 47, 21, 6, 133, 148]
abbrev dktL_law_17 : List UInt8 := dkwL_law_17 ++ dktL_law_18
def dkwL_law_16 : List UInt8 := [184, 0, 207, 54, 5, 44, 42, 21, 4, 4, 96, 46, 42, 21, 4, 5, 96, 46, 182, 0, 209, 54, 6, 44]
abbrev dktL_law_16 : List UInt8 := dkwL_law_16 ++ dktL_law_17
def dkwL_law_15 : List UInt8 := [153, 0, 5, 3, 172, 167, 12, 47, 43, 42, 21, 4, 4, 96, 46, 42, 21, 4, 5, 96, 46, 45]
abbrev dktL_law_15 : List UInt8 := dkwL_law_15 ++ dktL_law_16
def dkwL_law_14 : List UInt8 := [182, 0, 185, 21, 5, 159, 0, 5, 3, 172, 21, 5, 154, 0, 15, 45, 3, 47, 21, 6, 133, 148]
abbrev dktL_law_14 : List UInt8 := dkwL_law_14 ++ dktL_law_15
def dkwL_law_13 : List UInt8 := [184, 0, 203, 54, 5, 44, 42, 21, 4, 4, 96, 46, 42, 21, 4, 5, 96, 46, 182, 0, 206, 54, 6, 44]
abbrev dktL_law_13 : List UInt8 := dkwL_law_13 ++ dktL_law_14
def dkwL_law_12 : List UInt8 := [148, 153, 0, 5, 3, 172, 167, 12, 115, 43, 42, 21, 4, 4, 96, 46, 42, 21, 4, 5, 96, 46, 45]
abbrev dktL_law_12 : List UInt8 := dkwL_law_12 ++ dktL_law_13
def dkwL_law_11 : List UInt8 := [54, 6, 44, 182, 0, 185, 21, 5, 159, 0, 5, 3, 172, 21, 5, 154, 0, 15, 45, 3, 47, 21, 6, 133]
abbrev dktL_law_11 : List UInt8 := dkwL_law_11 ++ dktL_law_12
def dkwL_law_10 : List UInt8 := [172, 43, 42, 21, 4, 4, 96, 46, 45, 184, 0, 200, 54, 5, 44, 42, 21, 4, 4, 96, 46, 182, 0, 202]
abbrev dktL_law_10 : List UInt8 := dkwL_law_10 ++ dktL_law_11
def dkwL_law_9 : List UInt8 := [182, 0, 192, 44, 182, 0, 195, 159, 12, 186, 3, 172, 43, 182, 0, 196, 44, 182, 0, 199, 159, 12, 173, 3]
abbrev dktL_law_9 : List UInt8 := dkwL_law_9 ++ dktL_law_10
def dkwL_law_8 : List UInt8 := [148, 153, 0, 5, 3, 172, 167, 12, 210, 43, 182, 0, 188, 44, 182, 0, 191, 159, 12, 199, 3, 172, 43]
abbrev dktL_law_8 : List UInt8 := dkwL_law_8 ++ dktL_law_9
def dkwL_law_7 : List UInt8 := [54, 6, 44, 182, 0, 185, 21, 5, 159, 0, 5, 3, 172, 21, 5, 154, 0, 15, 45, 3, 47, 21, 6, 133]
abbrev dktL_law_7 : List UInt8 := dkwL_law_7 ++ dktL_law_8
def dkwL_law_6 : List UInt8 := [172, 43, 42, 21, 4, 4, 96, 46, 45, 184, 0, 179, 54, 5, 44, 42, 21, 4, 4, 96, 46, 182, 0, 184]
abbrev dktL_law_6 : List UInt8 := dkwL_law_6 ++ dktL_law_7
def dkwL_law_5 : List UInt8 := [21, 4, 6, 96, 46, 42, 21, 4, 7, 96, 46, 42, 21, 4, 8, 96, 46, 182, 0, 178, 159, 13, 12, 3]
abbrev dktL_law_5 : List UInt8 := dkwL_law_5 ++ dktL_law_6
def dkwL_law_4 : List UInt8 := [46, 42, 21, 4, 8, 96, 46, 182, 0, 174, 44, 42, 21, 4, 4, 96, 46, 42, 21, 4, 5, 96, 46, 42]
abbrev dktL_law_4 : List UInt8 := dkwL_law_4 ++ dktL_law_5
def dkwL_law_3 : List UInt8 := [43, 42, 21, 4, 4, 96, 46, 42, 21, 4, 5, 96, 46, 42, 21, 4, 6, 96, 46, 42, 21, 4, 7, 96]
abbrev dktL_law_3 : List UInt8 := dkwL_law_3 ++ dktL_law_4
def dkwL_law_2 : List UInt8 := [170, 0, 0, 0, 0, 0, 14, 96, 0, 0, 0, 0, 0, 0, 0, 63, 0, 0, 1, 16, 0, 0, 1, 89, 0, 0, 1, 145, 0, 0, 1, 158, 0, 0, 1, 171, 0, 0, 1, 184, 0, 0, 1, 240, 0, 0, 2, 52, 0, 0, 2, 120, 0, 0, 2, 145, 0, 0, 2, 201, 0, 0, 3, 1, 0, 0, 3, 69, 0, 0, 3, 82, 0, 0, 3, 178, 0, 0, 3, 219, 0, 0, 4, 6, 0, 0, 4, 74, 0, 0, 4, 130, 0, 0, 4, 186, 0, 0, 4, 254, 0, 0, 5, 54, 0, 0, 5, 67, 0, 0, 5, 135, 0, 0, 5, 191, 0, 0, 6, 19, 0, 0, 6, 75, 0, 0, 6, 131, 0, 0, 6, 187, 0, 0, 6, 243, 0, 0, 7, 55, 0, 0, 7, 68, 0, 0, 7, 152, 0, 0, 7, 236, 0, 0, 8, 36, 0, 0, 8, 49, 0, 0, 8, 62, 0, 0, 8, 118, 0, 0, 8, 186, 0, 0, 8, 242, 0, 0, 9, 54, 0, 0, 9, 67, 0, 0, 9, 123, 0, 0, 9, 191, 0, 0, 10, 3, 0, 0, 10, 59, 0, 0, 10, 127, 0, 0, 10, 195, 0, 0, 11, 19, 0, 0, 11, 99, 0, 0, 11, 167, 0, 0, 12, 2, 0, 0, 12, 58, 0, 0, 12, 114, 0, 0, 12, 127, 0, 0, 12, 183, 0, 0, 12, 251, 0, 0, 13, 51, 0, 0, 13, 95, 0, 0, 13, 139, 0, 0, 13, 183, 0, 0, 13, 227, 0, 0, 13, 240, 0, 0, 14, 40]
abbrev dktL_law_2 : List UInt8 := dkwL_law_2 ++ dktL_law_3
def dkwL_law_1 : List UInt8 := [21, 4, 42, 190, 16, 6, 100, 163, 14, 112, 42, 21, 4, 46, 16, 63, 126]
abbrev dktL_law_1 : List UInt8 := dkwL_law_1 ++ dktL_law_2
def dkwL_law_0 : List UInt8 := [187, 0, 8, 89, 183, 0, 170, 76, 187, 0, 171, 89, 183, 0, 173, 77, 4, 188, 11, 78, 3, 54, 4]
abbrev dktL_law_0 : List UInt8 := dkwL_law_0 ++ dktL_law_1
theorem dksL_law_0 : cL_law.data.toList.drop 0 = dktL_law_0 := by decide +kernel
theorem dksL_law_1 : cL_law.data.toList.drop 23 = dktL_law_1 := dk_seg dksL_law_0 23 rfl rfl
theorem dksL_law_2 : cL_law.data.toList.drop 40 = dktL_law_2 := dk_seg dksL_law_1 17 rfl rfl
theorem dksL_law_3 : cL_law.data.toList.drop 312 = dktL_law_3 := dk_seg dksL_law_2 272 rfl rfl
theorem dksL_law_4 : cL_law.data.toList.drop 336 = dktL_law_4 := dk_seg dksL_law_3 24 rfl rfl
theorem dksL_law_5 : cL_law.data.toList.drop 360 = dktL_law_5 := dk_seg dksL_law_4 24 rfl rfl
theorem dksL_law_6 : cL_law.data.toList.drop 384 = dktL_law_6 := dk_seg dksL_law_5 24 rfl rfl
theorem dksL_law_7 : cL_law.data.toList.drop 408 = dktL_law_7 := dk_seg dksL_law_6 24 rfl rfl
theorem dksL_law_8 : cL_law.data.toList.drop 432 = dktL_law_8 := dk_seg dksL_law_7 24 rfl rfl
theorem dksL_law_9 : cL_law.data.toList.drop 455 = dktL_law_9 := dk_seg dksL_law_8 23 rfl rfl
theorem dksL_law_10 : cL_law.data.toList.drop 479 = dktL_law_10 := dk_seg dksL_law_9 24 rfl rfl
theorem dksL_law_11 : cL_law.data.toList.drop 503 = dktL_law_11 := dk_seg dksL_law_10 24 rfl rfl
theorem dksL_law_12 : cL_law.data.toList.drop 527 = dktL_law_12 := dk_seg dksL_law_11 24 rfl rfl
theorem dksL_law_13 : cL_law.data.toList.drop 550 = dktL_law_13 := dk_seg dksL_law_12 23 rfl rfl
theorem dksL_law_14 : cL_law.data.toList.drop 574 = dktL_law_14 := dk_seg dksL_law_13 24 rfl rfl
theorem dksL_law_15 : cL_law.data.toList.drop 596 = dktL_law_15 := dk_seg dksL_law_14 22 rfl rfl
theorem dksL_law_16 : cL_law.data.toList.drop 618 = dktL_law_16 := dk_seg dksL_law_15 22 rfl rfl
theorem dksL_law_17 : cL_law.data.toList.drop 642 = dktL_law_17 := dk_seg dksL_law_16 24 rfl rfl
theorem dksL_law_18 : cL_law.data.toList.drop 664 = dktL_law_18 := dk_seg dksL_law_17 22 rfl rfl
theorem dksL_law_19 : cL_law.data.toList.drop 688 = dktL_law_19 := dk_seg dksL_law_18 24 rfl rfl
theorem dksL_law_20 : cL_law.data.toList.drop 712 = dktL_law_20 := dk_seg dksL_law_19 24 rfl rfl
theorem dksL_law_21 : cL_law.data.toList.drop 735 = dktL_law_21 := dk_seg dksL_law_20 23 rfl rfl
theorem dksL_law_22 : cL_law.data.toList.drop 759 = dktL_law_22 := dk_seg dksL_law_21 24 rfl rfl
theorem dksL_law_23 : cL_law.data.toList.drop 782 = dktL_law_23 := dk_seg dksL_law_22 23 rfl rfl
theorem dksL_law_24 : cL_law.data.toList.drop 806 = dktL_law_24 := dk_seg dksL_law_23 24 rfl rfl
theorem dksL_law_25 : cL_law.data.toList.drop 830 = dktL_law_25 := dk_seg dksL_law_24 24 rfl rfl
theorem dksL_law_26 : cL_law.data.toList.drop 852 = dktL_law_26 := dk_seg dksL_law_25 22 rfl rfl
theorem dksL_law_27 : cL_law.data.toList.drop 874 = dktL_law_27 := dk_seg dksL_law_26 22 rfl rfl
theorem dksL_law_28 : cL_law.data.toList.drop 898 = dktL_law_28 := dk_seg dksL_law_27 24 rfl rfl
theorem dksL_law_29 : cL_law.data.toList.drop 921 = dktL_law_29 := dk_seg dksL_law_28 23 rfl rfl
theorem dksL_law_30 : cL_law.data.toList.drop 945 = dktL_law_30 := dk_seg dksL_law_29 24 rfl rfl
theorem dksL_law_31 : cL_law.data.toList.drop 968 = dktL_law_31 := dk_seg dksL_law_30 23 rfl rfl
theorem dksL_law_32 : cL_law.data.toList.drop 992 = dktL_law_32 := dk_seg dksL_law_31 24 rfl rfl
theorem dksL_law_33 : cL_law.data.toList.drop 1016 = dktL_law_33 := dk_seg dksL_law_32 24 rfl rfl
theorem dksL_law_34 : cL_law.data.toList.drop 1039 = dktL_law_34 := dk_seg dksL_law_33 23 rfl rfl
theorem dksL_law_35 : cL_law.data.toList.drop 1062 = dktL_law_35 := dk_seg dksL_law_34 23 rfl rfl
theorem dksL_law_36 : cL_law.data.toList.drop 1084 = dktL_law_36 := dk_seg dksL_law_35 22 rfl rfl
theorem dksL_law_37 : cL_law.data.toList.drop 1108 = dktL_law_37 := dk_seg dksL_law_36 24 rfl rfl
theorem dksL_law_38 : cL_law.data.toList.drop 1130 = dktL_law_38 := dk_seg dksL_law_37 22 rfl rfl
theorem dksL_law_39 : cL_law.data.toList.drop 1153 = dktL_law_39 := dk_seg dksL_law_38 23 rfl rfl
theorem dksL_law_40 : cL_law.data.toList.drop 1176 = dktL_law_40 := dk_seg dksL_law_39 23 rfl rfl
theorem dksL_law_41 : cL_law.data.toList.drop 1200 = dktL_law_41 := dk_seg dksL_law_40 24 rfl rfl
theorem dksL_law_42 : cL_law.data.toList.drop 1223 = dktL_law_42 := dk_seg dksL_law_41 23 rfl rfl
theorem dksL_law_43 : cL_law.data.toList.drop 1247 = dktL_law_43 := dk_seg dksL_law_42 24 rfl rfl
theorem dksL_law_44 : cL_law.data.toList.drop 1271 = dktL_law_44 := dk_seg dksL_law_43 24 rfl rfl
theorem dksL_law_45 : cL_law.data.toList.drop 1293 = dktL_law_45 := dk_seg dksL_law_44 22 rfl rfl
theorem dksL_law_46 : cL_law.data.toList.drop 1315 = dktL_law_46 := dk_seg dksL_law_45 22 rfl rfl
theorem dksL_law_47 : cL_law.data.toList.drop 1338 = dktL_law_47 := dk_seg dksL_law_46 23 rfl rfl
theorem dksL_law_48 : cL_law.data.toList.drop 1362 = dktL_law_48 := dk_seg dksL_law_47 24 rfl rfl
theorem dksL_law_49 : cL_law.data.toList.drop 1386 = dktL_law_49 := dk_seg dksL_law_48 24 rfl rfl
theorem dksL_law_50 : cL_law.data.toList.drop 1410 = dktL_law_50 := dk_seg dksL_law_49 24 rfl rfl
theorem dksL_law_51 : cL_law.data.toList.drop 1434 = dktL_law_51 := dk_seg dksL_law_50 24 rfl rfl
theorem dksL_law_52 : cL_law.data.toList.drop 1457 = dktL_law_52 := dk_seg dksL_law_51 23 rfl rfl
theorem dksL_law_53 : cL_law.data.toList.drop 1481 = dktL_law_53 := dk_seg dksL_law_52 24 rfl rfl
theorem dksL_law_54 : cL_law.data.toList.drop 1503 = dktL_law_54 := dk_seg dksL_law_53 22 rfl rfl
theorem dksL_law_55 : cL_law.data.toList.drop 1527 = dktL_law_55 := dk_seg dksL_law_54 24 rfl rfl
theorem dksL_law_56 : cL_law.data.toList.drop 1551 = dktL_law_56 := dk_seg dksL_law_55 24 rfl rfl
theorem dksL_law_57 : cL_law.data.toList.drop 1575 = dktL_law_57 := dk_seg dksL_law_56 24 rfl rfl
theorem dksL_law_58 : cL_law.data.toList.drop 1599 = dktL_law_58 := dk_seg dksL_law_57 24 rfl rfl
theorem dksL_law_59 : cL_law.data.toList.drop 1621 = dktL_law_59 := dk_seg dksL_law_58 22 rfl rfl
theorem dksL_law_60 : cL_law.data.toList.drop 1643 = dktL_law_60 := dk_seg dksL_law_59 22 rfl rfl
theorem dksL_law_61 : cL_law.data.toList.drop 1666 = dktL_law_61 := dk_seg dksL_law_60 23 rfl rfl
theorem dksL_law_62 : cL_law.data.toList.drop 1689 = dktL_law_62 := dk_seg dksL_law_61 23 rfl rfl
theorem dksL_law_63 : cL_law.data.toList.drop 1713 = dktL_law_63 := dk_seg dksL_law_62 24 rfl rfl
theorem dksL_law_64 : cL_law.data.toList.drop 1736 = dktL_law_64 := dk_seg dksL_law_63 23 rfl rfl
theorem dksL_law_65 : cL_law.data.toList.drop 1760 = dktL_law_65 := dk_seg dksL_law_64 24 rfl rfl
theorem dksL_law_66 : cL_law.data.toList.drop 1783 = dktL_law_66 := dk_seg dksL_law_65 23 rfl rfl
theorem dksL_law_67 : cL_law.data.toList.drop 1807 = dktL_law_67 := dk_seg dksL_law_66 24 rfl rfl
theorem dksL_law_68 : cL_law.data.toList.drop 1831 = dktL_law_68 := dk_seg dksL_law_67 24 rfl rfl
theorem dksL_law_69 : cL_law.data.toList.drop 1854 = dktL_law_69 := dk_seg dksL_law_68 23 rfl rfl
theorem dksL_law_70 : cL_law.data.toList.drop 1878 = dktL_law_70 := dk_seg dksL_law_69 24 rfl rfl
theorem dksL_law_71 : cL_law.data.toList.drop 1902 = dktL_law_71 := dk_seg dksL_law_70 24 rfl rfl
theorem dksL_law_72 : cL_law.data.toList.drop 1925 = dktL_law_72 := dk_seg dksL_law_71 23 rfl rfl
theorem dksL_law_73 : cL_law.data.toList.drop 1948 = dktL_law_73 := dk_seg dksL_law_72 23 rfl rfl
theorem dksL_law_74 : cL_law.data.toList.drop 1972 = dktL_law_74 := dk_seg dksL_law_73 24 rfl rfl
theorem dksL_law_75 : cL_law.data.toList.drop 1996 = dktL_law_75 := dk_seg dksL_law_74 24 rfl rfl
theorem dksL_law_76 : cL_law.data.toList.drop 2019 = dktL_law_76 := dk_seg dksL_law_75 23 rfl rfl
theorem dksL_law_77 : cL_law.data.toList.drop 2043 = dktL_law_77 := dk_seg dksL_law_76 24 rfl rfl
theorem dksL_law_78 : cL_law.data.toList.drop 2065 = dktL_law_78 := dk_seg dksL_law_77 22 rfl rfl
theorem dksL_law_79 : cL_law.data.toList.drop 2088 = dktL_law_79 := dk_seg dksL_law_78 23 rfl rfl
theorem dksL_law_80 : cL_law.data.toList.drop 2112 = dktL_law_80 := dk_seg dksL_law_79 24 rfl rfl
theorem dksL_law_81 : cL_law.data.toList.drop 2136 = dktL_law_81 := dk_seg dksL_law_80 24 rfl rfl
theorem dksL_law_82 : cL_law.data.toList.drop 2158 = dktL_law_82 := dk_seg dksL_law_81 22 rfl rfl
theorem dksL_law_83 : cL_law.data.toList.drop 2181 = dktL_law_83 := dk_seg dksL_law_82 23 rfl rfl
theorem dksL_law_84 : cL_law.data.toList.drop 2203 = dktL_law_84 := dk_seg dksL_law_83 22 rfl rfl
theorem dksL_law_85 : cL_law.data.toList.drop 2227 = dktL_law_85 := dk_seg dksL_law_84 24 rfl rfl
theorem dksL_law_86 : cL_law.data.toList.drop 2249 = dktL_law_86 := dk_seg dksL_law_85 22 rfl rfl
theorem dksL_law_87 : cL_law.data.toList.drop 2271 = dktL_law_87 := dk_seg dksL_law_86 22 rfl rfl
theorem dksL_law_88 : cL_law.data.toList.drop 2294 = dktL_law_88 := dk_seg dksL_law_87 23 rfl rfl
theorem dksL_law_89 : cL_law.data.toList.drop 2318 = dktL_law_89 := dk_seg dksL_law_88 24 rfl rfl
theorem dksL_law_90 : cL_law.data.toList.drop 2342 = dktL_law_90 := dk_seg dksL_law_89 24 rfl rfl
theorem dksL_law_91 : cL_law.data.toList.drop 2365 = dktL_law_91 := dk_seg dksL_law_90 23 rfl rfl
theorem dksL_law_92 : cL_law.data.toList.drop 2389 = dktL_law_92 := dk_seg dksL_law_91 24 rfl rfl
theorem dksL_law_93 : cL_law.data.toList.drop 2413 = dktL_law_93 := dk_seg dksL_law_92 24 rfl rfl
theorem dksL_law_94 : cL_law.data.toList.drop 2437 = dktL_law_94 := dk_seg dksL_law_93 24 rfl rfl
theorem dksL_law_95 : cL_law.data.toList.drop 2459 = dktL_law_95 := dk_seg dksL_law_94 22 rfl rfl
theorem dksL_law_96 : cL_law.data.toList.drop 2481 = dktL_law_96 := dk_seg dksL_law_95 22 rfl rfl
theorem dksL_law_97 : cL_law.data.toList.drop 2505 = dktL_law_97 := dk_seg dksL_law_96 24 rfl rfl
theorem dksL_law_98 : cL_law.data.toList.drop 2527 = dktL_law_98 := dk_seg dksL_law_97 22 rfl rfl
theorem dksL_law_99 : cL_law.data.toList.drop 2549 = dktL_law_99 := dk_seg dksL_law_98 22 rfl rfl
theorem dksL_law_100 : cL_law.data.toList.drop 2573 = dktL_law_100 := dk_seg dksL_law_99 24 rfl rfl
theorem dksL_law_101 : cL_law.data.toList.drop 2595 = dktL_law_101 := dk_seg dksL_law_100 22 rfl rfl
theorem dksL_law_102 : cL_law.data.toList.drop 2618 = dktL_law_102 := dk_seg dksL_law_101 23 rfl rfl
theorem dksL_law_103 : cL_law.data.toList.drop 2641 = dktL_law_103 := dk_seg dksL_law_102 23 rfl rfl
theorem dksL_law_104 : cL_law.data.toList.drop 2665 = dktL_law_104 := dk_seg dksL_law_103 24 rfl rfl
theorem dksL_law_105 : cL_law.data.toList.drop 2689 = dktL_law_105 := dk_seg dksL_law_104 24 rfl rfl
theorem dksL_law_106 : cL_law.data.toList.drop 2713 = dktL_law_106 := dk_seg dksL_law_105 24 rfl rfl
theorem dksL_law_107 : cL_law.data.toList.drop 2737 = dktL_law_107 := dk_seg dksL_law_106 24 rfl rfl
theorem dksL_law_108 : cL_law.data.toList.drop 2759 = dktL_law_108 := dk_seg dksL_law_107 22 rfl rfl
theorem dksL_law_109 : cL_law.data.toList.drop 2783 = dktL_law_109 := dk_seg dksL_law_108 24 rfl rfl
theorem dksL_law_110 : cL_law.data.toList.drop 2807 = dktL_law_110 := dk_seg dksL_law_109 24 rfl rfl
theorem dksL_law_111 : cL_law.data.toList.drop 2831 = dktL_law_111 := dk_seg dksL_law_110 24 rfl rfl
theorem dksL_law_112 : cL_law.data.toList.drop 2855 = dktL_law_112 := dk_seg dksL_law_111 24 rfl rfl
theorem dksL_law_113 : cL_law.data.toList.drop 2879 = dktL_law_113 := dk_seg dksL_law_112 24 rfl rfl
theorem dksL_law_114 : cL_law.data.toList.drop 2902 = dktL_law_114 := dk_seg dksL_law_113 23 rfl rfl
theorem dksL_law_115 : cL_law.data.toList.drop 2925 = dktL_law_115 := dk_seg dksL_law_114 23 rfl rfl
theorem dksL_law_116 : cL_law.data.toList.drop 2947 = dktL_law_116 := dk_seg dksL_law_115 22 rfl rfl
theorem dksL_law_117 : cL_law.data.toList.drop 2969 = dktL_law_117 := dk_seg dksL_law_116 22 rfl rfl
theorem dksL_law_118 : cL_law.data.toList.drop 2993 = dktL_law_118 := dk_seg dksL_law_117 24 rfl rfl
theorem dksL_law_119 : cL_law.data.toList.drop 3015 = dktL_law_119 := dk_seg dksL_law_118 22 rfl rfl
theorem dksL_law_120 : cL_law.data.toList.drop 3039 = dktL_law_120 := dk_seg dksL_law_119 24 rfl rfl
theorem dksL_law_121 : cL_law.data.toList.drop 3063 = dktL_law_121 := dk_seg dksL_law_120 24 rfl rfl
theorem dksL_law_122 : cL_law.data.toList.drop 3087 = dktL_law_122 := dk_seg dksL_law_121 24 rfl rfl
theorem dksL_law_123 : cL_law.data.toList.drop 3111 = dktL_law_123 := dk_seg dksL_law_122 24 rfl rfl
theorem dksL_law_124 : cL_law.data.toList.drop 3134 = dktL_law_124 := dk_seg dksL_law_123 23 rfl rfl
theorem dksL_law_125 : cL_law.data.toList.drop 3158 = dktL_law_125 := dk_seg dksL_law_124 24 rfl rfl
theorem dksL_law_126 : cL_law.data.toList.drop 3181 = dktL_law_126 := dk_seg dksL_law_125 23 rfl rfl
theorem dksL_law_127 : cL_law.data.toList.drop 3205 = dktL_law_127 := dk_seg dksL_law_126 24 rfl rfl
theorem dksL_law_128 : cL_law.data.toList.drop 3227 = dktL_law_128 := dk_seg dksL_law_127 22 rfl rfl
theorem dksL_law_129 : cL_law.data.toList.drop 3250 = dktL_law_129 := dk_seg dksL_law_128 23 rfl rfl
theorem dksL_law_130 : cL_law.data.toList.drop 3274 = dktL_law_130 := dk_seg dksL_law_129 24 rfl rfl
theorem dksL_law_131 : cL_law.data.toList.drop 3297 = dktL_law_131 := dk_seg dksL_law_130 23 rfl rfl
theorem dksL_law_132 : cL_law.data.toList.drop 3321 = dktL_law_132 := dk_seg dksL_law_131 24 rfl rfl
theorem dksL_law_133 : cL_law.data.toList.drop 3345 = dktL_law_133 := dk_seg dksL_law_132 24 rfl rfl
theorem dksL_law_134 : cL_law.data.toList.drop 3369 = dktL_law_134 := dk_seg dksL_law_133 24 rfl rfl
theorem dksL_law_135 : cL_law.data.toList.drop 3392 = dktL_law_135 := dk_seg dksL_law_134 23 rfl rfl
theorem dksL_law_136 : cL_law.data.toList.drop 3416 = dktL_law_136 := dk_seg dksL_law_135 24 rfl rfl
theorem dksL_law_137 : cL_law.data.toList.drop 3438 = dktL_law_137 := dk_seg dksL_law_136 22 rfl rfl
theorem dksL_law_138 : cL_law.data.toList.drop 3460 = dktL_law_138 := dk_seg dksL_law_137 22 rfl rfl
theorem dksL_law_139 : cL_law.data.toList.drop 3482 = dktL_law_139 := dk_seg dksL_law_138 22 rfl rfl
theorem dksL_law_140 : cL_law.data.toList.drop 3504 = dktL_law_140 := dk_seg dksL_law_139 22 rfl rfl
theorem dksL_law_141 : cL_law.data.toList.drop 3526 = dktL_law_141 := dk_seg dksL_law_140 22 rfl rfl
theorem dksL_law_142 : cL_law.data.toList.drop 3548 = dktL_law_142 := dk_seg dksL_law_141 22 rfl rfl
theorem dksL_law_143 : cL_law.data.toList.drop 3570 = dktL_law_143 := dk_seg dksL_law_142 22 rfl rfl
theorem dksL_law_144 : cL_law.data.toList.drop 3592 = dktL_law_144 := dk_seg dksL_law_143 22 rfl rfl
theorem dksL_law_145 : cL_law.data.toList.drop 3616 = dktL_law_145 := dk_seg dksL_law_144 24 rfl rfl
theorem dksL_law_146 : cL_law.data.toList.drop 3639 = dktL_law_146 := dk_seg dksL_law_145 23 rfl rfl
theorem dksL_law_147 : cL_law.data.toList.drop 3661 = dktL_law_147 := dk_seg dksL_law_146 22 rfl rfl
theorem dksL_law_148 : cL_law.data.toList.drop 3684 = dktL_law_148 := dk_seg dksL_law_147 23 rfl rfl
theorem dksL_law_149 : cL_law.data.toList.drop 3708 = dktL_law_149 := dk_seg dksL_law_148 24 rfl rfl
theorem dL_law_0 : decode cL_law 0 = .ok (.new 8, 3) := dk_187 0 8 (dk_at dksL_law_0 0 rfl rfl)
theorem dL_law_3 : decode cL_law 3 = .ok (.dup, 1) := dk_89 (dk_at dksL_law_0 3 rfl rfl)
theorem dL_law_4 : decode cL_law 4 = .ok (.invokespecial 170, 3) := dk_183 0 170 (dk_at dksL_law_0 4 rfl rfl)
theorem dL_law_7 : decode cL_law 7 = .ok (.astore_n 1, 1) := dk_76 (dk_at dksL_law_0 7 rfl rfl)
theorem dL_law_8 : decode cL_law 8 = .ok (.new 171, 3) := dk_187 0 171 (dk_at dksL_law_0 8 rfl rfl)
theorem dL_law_11 : decode cL_law 11 = .ok (.dup, 1) := dk_89 (dk_at dksL_law_0 11 rfl rfl)
theorem dL_law_12 : decode cL_law 12 = .ok (.invokespecial 173, 3) := dk_183 0 173 (dk_at dksL_law_0 12 rfl rfl)
theorem dL_law_15 : decode cL_law 15 = .ok (.astore_n 2, 1) := dk_77 (dk_at dksL_law_0 15 rfl rfl)
theorem dL_law_16 : decode cL_law 16 = .ok (.iconst 1, 1) := dk_4 (dk_at dksL_law_0 16 rfl rfl)
theorem dL_law_17 : decode cL_law 17 = .ok (.newarray .long, 2) := dk_188_11 (dk_at dksL_law_0 17 rfl rfl)
theorem dL_law_19 : decode cL_law 19 = .ok (.astore_n 3, 1) := dk_78 (dk_at dksL_law_0 19 rfl rfl)
theorem dL_law_20 : decode cL_law 20 = .ok (.iconst 0, 1) := dk_3 (dk_at dksL_law_0 20 rfl rfl)
theorem dL_law_21 : decode cL_law 21 = .ok (.istore 4, 2) := dk_54 4 (dk_at dksL_law_0 21 rfl rfl)
theorem dL_law_23 : decode cL_law 23 = .ok (.iload 4, 2) := dk_21 4 (dk_at dksL_law_1 0 rfl rfl)
theorem dL_law_25 : decode cL_law 25 = .ok (.aload_n 0, 1) := dk_42 (dk_at dksL_law_1 2 rfl rfl)
theorem dL_law_26 : decode cL_law 26 = .ok (.arraylength, 1) := dk_190 (dk_at dksL_law_1 3 rfl rfl)
theorem dL_law_27 : decode cL_law 27 = .ok (.bipush 6, 2) := dk_16 6 (dk_at dksL_law_1 4 rfl rfl)
theorem dL_law_29 : decode cL_law 29 = .ok (.isub, 1) := dk_100 (dk_at dksL_law_1 6 rfl rfl)
theorem dL_law_30 : decode cL_law 30 = .ok (.if_icmp .gt 3696, 3) := dk_163 14 112 (dk_at dksL_law_1 7 rfl rfl)
theorem dL_law_33 : decode cL_law 33 = .ok (.aload_n 0, 1) := dk_42 (dk_at dksL_law_1 10 rfl rfl)
theorem dL_law_34 : decode cL_law 34 = .ok (.iload 4, 2) := dk_21 4 (dk_at dksL_law_1 11 rfl rfl)
theorem dL_law_36 : decode cL_law 36 = .ok (.iaload, 1) := dk_46 (dk_at dksL_law_1 13 rfl rfl)
theorem dL_law_37 : decode cL_law 37 = .ok (.bipush 63, 2) := dk_16 63 (dk_at dksL_law_1 14 rfl rfl)
theorem dL_law_39 : decode cL_law 39 = .ok (.iand, 1) := dk_126 (dk_at dksL_law_1 16 rfl rfl)
theorem dL_law_40 : decode cL_law 40 = .ok (.tableswitch 3680 0 63 #[272, 345, 401, 414, 427, 440, 496, 564, 632, 657, 713, 769, 837, 850, 946, 987, 1030, 1098, 1154, 1210, 1278, 1334, 1347, 1415, 1471, 1555, 1611, 1667, 1723, 1779, 1847, 1860, 1944, 2028, 2084, 2097, 2110, 2166, 2234, 2290, 2358, 2371, 2427, 2495, 2563, 2619, 2687, 2755, 2835, 2915, 2983, 3074, 3130, 3186, 3199, 3255, 3323, 3379, 3423, 3467, 3511, 3555, 3568, 3624], 272) := by decide +kernel
theorem dL_law_312 : decode cL_law 312 = .ok (.aload_n 1, 1) := dk_43 (dk_at dksL_law_3 0 rfl rfl)
theorem dL_law_313 : decode cL_law 313 = .ok (.aload_n 0, 1) := dk_42 (dk_at dksL_law_3 1 rfl rfl)
theorem dL_law_314 : decode cL_law 314 = .ok (.iload 4, 2) := dk_21 4 (dk_at dksL_law_3 2 rfl rfl)
theorem dL_law_316 : decode cL_law 316 = .ok (.iconst 1, 1) := dk_4 (dk_at dksL_law_3 4 rfl rfl)
theorem dL_law_317 : decode cL_law 317 = .ok (.iadd, 1) := dk_96 (dk_at dksL_law_3 5 rfl rfl)
theorem dL_law_318 : decode cL_law 318 = .ok (.iaload, 1) := dk_46 (dk_at dksL_law_3 6 rfl rfl)
theorem dL_law_319 : decode cL_law 319 = .ok (.aload_n 0, 1) := dk_42 (dk_at dksL_law_3 7 rfl rfl)
theorem dL_law_320 : decode cL_law 320 = .ok (.iload 4, 2) := dk_21 4 (dk_at dksL_law_3 8 rfl rfl)
theorem dL_law_322 : decode cL_law 322 = .ok (.iconst 2, 1) := dk_5 (dk_at dksL_law_3 10 rfl rfl)
theorem dL_law_323 : decode cL_law 323 = .ok (.iadd, 1) := dk_96 (dk_at dksL_law_3 11 rfl rfl)
theorem dL_law_324 : decode cL_law 324 = .ok (.iaload, 1) := dk_46 (dk_at dksL_law_3 12 rfl rfl)
theorem dL_law_325 : decode cL_law 325 = .ok (.aload_n 0, 1) := dk_42 (dk_at dksL_law_3 13 rfl rfl)
theorem dL_law_326 : decode cL_law 326 = .ok (.iload 4, 2) := dk_21 4 (dk_at dksL_law_3 14 rfl rfl)
theorem dL_law_328 : decode cL_law 328 = .ok (.iconst 3, 1) := dk_6 (dk_at dksL_law_3 16 rfl rfl)
theorem dL_law_329 : decode cL_law 329 = .ok (.iadd, 1) := dk_96 (dk_at dksL_law_3 17 rfl rfl)
theorem dL_law_330 : decode cL_law 330 = .ok (.iaload, 1) := dk_46 (dk_at dksL_law_3 18 rfl rfl)
theorem dL_law_331 : decode cL_law 331 = .ok (.aload_n 0, 1) := dk_42 (dk_at dksL_law_3 19 rfl rfl)
theorem dL_law_332 : decode cL_law 332 = .ok (.iload 4, 2) := dk_21 4 (dk_at dksL_law_3 20 rfl rfl)
theorem dL_law_334 : decode cL_law 334 = .ok (.iconst 4, 1) := dk_7 (dk_at dksL_law_3 22 rfl rfl)
theorem dL_law_335 : decode cL_law 335 = .ok (.iadd, 1) := dk_96 (dk_at dksL_law_3 23 rfl rfl)
theorem dL_law_336 : decode cL_law 336 = .ok (.iaload, 1) := dk_46 (dk_at dksL_law_4 0 rfl rfl)
theorem dL_law_337 : decode cL_law 337 = .ok (.aload_n 0, 1) := dk_42 (dk_at dksL_law_4 1 rfl rfl)
theorem dL_law_338 : decode cL_law 338 = .ok (.iload 4, 2) := dk_21 4 (dk_at dksL_law_4 2 rfl rfl)
theorem dL_law_340 : decode cL_law 340 = .ok (.iconst 5, 1) := dk_8 (dk_at dksL_law_4 4 rfl rfl)
theorem dL_law_341 : decode cL_law 341 = .ok (.iadd, 1) := dk_96 (dk_at dksL_law_4 5 rfl rfl)
theorem dL_law_342 : decode cL_law 342 = .ok (.iaload, 1) := dk_46 (dk_at dksL_law_4 6 rfl rfl)
theorem dL_law_343 : decode cL_law 343 = .ok (.invokevirtual 174, 3) := dk_182 0 174 (dk_at dksL_law_4 7 rfl rfl)
theorem dL_law_346 : decode cL_law 346 = .ok (.aload_n 2, 1) := dk_44 (dk_at dksL_law_4 10 rfl rfl)
theorem dL_law_347 : decode cL_law 347 = .ok (.aload_n 0, 1) := dk_42 (dk_at dksL_law_4 11 rfl rfl)
theorem dL_law_348 : decode cL_law 348 = .ok (.iload 4, 2) := dk_21 4 (dk_at dksL_law_4 12 rfl rfl)
theorem dL_law_350 : decode cL_law 350 = .ok (.iconst 1, 1) := dk_4 (dk_at dksL_law_4 14 rfl rfl)
theorem dL_law_351 : decode cL_law 351 = .ok (.iadd, 1) := dk_96 (dk_at dksL_law_4 15 rfl rfl)
theorem dL_law_352 : decode cL_law 352 = .ok (.iaload, 1) := dk_46 (dk_at dksL_law_4 16 rfl rfl)
theorem dL_law_353 : decode cL_law 353 = .ok (.aload_n 0, 1) := dk_42 (dk_at dksL_law_4 17 rfl rfl)
theorem dL_law_354 : decode cL_law 354 = .ok (.iload 4, 2) := dk_21 4 (dk_at dksL_law_4 18 rfl rfl)
theorem dL_law_356 : decode cL_law 356 = .ok (.iconst 2, 1) := dk_5 (dk_at dksL_law_4 20 rfl rfl)
theorem dL_law_357 : decode cL_law 357 = .ok (.iadd, 1) := dk_96 (dk_at dksL_law_4 21 rfl rfl)
theorem dL_law_358 : decode cL_law 358 = .ok (.iaload, 1) := dk_46 (dk_at dksL_law_4 22 rfl rfl)
theorem dL_law_359 : decode cL_law 359 = .ok (.aload_n 0, 1) := dk_42 (dk_at dksL_law_4 23 rfl rfl)
theorem dL_law_360 : decode cL_law 360 = .ok (.iload 4, 2) := dk_21 4 (dk_at dksL_law_5 0 rfl rfl)
theorem dL_law_362 : decode cL_law 362 = .ok (.iconst 3, 1) := dk_6 (dk_at dksL_law_5 2 rfl rfl)
theorem dL_law_363 : decode cL_law 363 = .ok (.iadd, 1) := dk_96 (dk_at dksL_law_5 3 rfl rfl)
theorem dL_law_364 : decode cL_law 364 = .ok (.iaload, 1) := dk_46 (dk_at dksL_law_5 4 rfl rfl)
theorem dL_law_365 : decode cL_law 365 = .ok (.aload_n 0, 1) := dk_42 (dk_at dksL_law_5 5 rfl rfl)
theorem dL_law_366 : decode cL_law 366 = .ok (.iload 4, 2) := dk_21 4 (dk_at dksL_law_5 6 rfl rfl)
theorem dL_law_368 : decode cL_law 368 = .ok (.iconst 4, 1) := dk_7 (dk_at dksL_law_5 8 rfl rfl)
theorem dL_law_369 : decode cL_law 369 = .ok (.iadd, 1) := dk_96 (dk_at dksL_law_5 9 rfl rfl)
theorem dL_law_370 : decode cL_law 370 = .ok (.iaload, 1) := dk_46 (dk_at dksL_law_5 10 rfl rfl)
theorem dL_law_371 : decode cL_law 371 = .ok (.aload_n 0, 1) := dk_42 (dk_at dksL_law_5 11 rfl rfl)
theorem dL_law_372 : decode cL_law 372 = .ok (.iload 4, 2) := dk_21 4 (dk_at dksL_law_5 12 rfl rfl)
theorem dL_law_374 : decode cL_law 374 = .ok (.iconst 5, 1) := dk_8 (dk_at dksL_law_5 14 rfl rfl)
theorem dL_law_375 : decode cL_law 375 = .ok (.iadd, 1) := dk_96 (dk_at dksL_law_5 15 rfl rfl)
theorem dL_law_376 : decode cL_law 376 = .ok (.iaload, 1) := dk_46 (dk_at dksL_law_5 16 rfl rfl)
theorem dL_law_377 : decode cL_law 377 = .ok (.invokevirtual 178, 3) := dk_182 0 178 (dk_at dksL_law_5 17 rfl rfl)
theorem dL_law_380 : decode cL_law 380 = .ok (.if_icmp .eq 3340, 3) := dk_159 13 12 (dk_at dksL_law_5 20 rfl rfl)
theorem dL_law_383 : decode cL_law 383 = .ok (.iconst 0, 1) := dk_3 (dk_at dksL_law_5 23 rfl rfl)
theorem dL_law_384 : decode cL_law 384 = .ok (.ireturn, 1) := dk_172 (dk_at dksL_law_6 0 rfl rfl)
theorem dL_law_385 : decode cL_law 385 = .ok (.aload_n 1, 1) := dk_43 (dk_at dksL_law_6 1 rfl rfl)
theorem dL_law_386 : decode cL_law 386 = .ok (.aload_n 0, 1) := dk_42 (dk_at dksL_law_6 2 rfl rfl)
theorem dL_law_387 : decode cL_law 387 = .ok (.iload 4, 2) := dk_21 4 (dk_at dksL_law_6 3 rfl rfl)
theorem dL_law_389 : decode cL_law 389 = .ok (.iconst 1, 1) := dk_4 (dk_at dksL_law_6 5 rfl rfl)
theorem dL_law_390 : decode cL_law 390 = .ok (.iadd, 1) := dk_96 (dk_at dksL_law_6 6 rfl rfl)
theorem dL_law_391 : decode cL_law 391 = .ok (.iaload, 1) := dk_46 (dk_at dksL_law_6 7 rfl rfl)
theorem dL_law_392 : decode cL_law 392 = .ok (.aload_n 3, 1) := dk_45 (dk_at dksL_law_6 8 rfl rfl)
theorem dL_law_393 : decode cL_law 393 = .ok (.invokestatic 179, 3) := dk_184 0 179 (dk_at dksL_law_6 9 rfl rfl)
theorem dL_law_396 : decode cL_law 396 = .ok (.istore 5, 2) := dk_54 5 (dk_at dksL_law_6 12 rfl rfl)
theorem dL_law_398 : decode cL_law 398 = .ok (.aload_n 2, 1) := dk_44 (dk_at dksL_law_6 14 rfl rfl)
theorem dL_law_399 : decode cL_law 399 = .ok (.aload_n 0, 1) := dk_42 (dk_at dksL_law_6 15 rfl rfl)
theorem dL_law_400 : decode cL_law 400 = .ok (.iload 4, 2) := dk_21 4 (dk_at dksL_law_6 16 rfl rfl)
theorem dL_law_402 : decode cL_law 402 = .ok (.iconst 1, 1) := dk_4 (dk_at dksL_law_6 18 rfl rfl)
theorem dL_law_403 : decode cL_law 403 = .ok (.iadd, 1) := dk_96 (dk_at dksL_law_6 19 rfl rfl)
theorem dL_law_404 : decode cL_law 404 = .ok (.iaload, 1) := dk_46 (dk_at dksL_law_6 20 rfl rfl)
theorem dL_law_405 : decode cL_law 405 = .ok (.invokevirtual 184, 3) := dk_182 0 184 (dk_at dksL_law_6 21 rfl rfl)
theorem dL_law_408 : decode cL_law 408 = .ok (.istore 6, 2) := dk_54 6 (dk_at dksL_law_7 0 rfl rfl)
theorem dL_law_410 : decode cL_law 410 = .ok (.aload_n 2, 1) := dk_44 (dk_at dksL_law_7 2 rfl rfl)
theorem dL_law_411 : decode cL_law 411 = .ok (.invokevirtual 185, 3) := dk_182 0 185 (dk_at dksL_law_7 3 rfl rfl)
theorem dL_law_414 : decode cL_law 414 = .ok (.iload 5, 2) := dk_21 5 (dk_at dksL_law_7 6 rfl rfl)
theorem dL_law_416 : decode cL_law 416 = .ok (.if_icmp .eq 5, 3) := dk_159 0 5 (dk_at dksL_law_7 8 rfl rfl)
theorem dL_law_419 : decode cL_law 419 = .ok (.iconst 0, 1) := dk_3 (dk_at dksL_law_7 11 rfl rfl)
theorem dL_law_420 : decode cL_law 420 = .ok (.ireturn, 1) := dk_172 (dk_at dksL_law_7 12 rfl rfl)
theorem dL_law_421 : decode cL_law 421 = .ok (.iload 5, 2) := dk_21 5 (dk_at dksL_law_7 13 rfl rfl)
theorem dL_law_423 : decode cL_law 423 = .ok (.ifCond .ne 15, 3) := dk_154 0 15 (dk_at dksL_law_7 15 rfl rfl)
theorem dL_law_426 : decode cL_law 426 = .ok (.aload_n 3, 1) := dk_45 (dk_at dksL_law_7 18 rfl rfl)
theorem dL_law_427 : decode cL_law 427 = .ok (.iconst 0, 1) := dk_3 (dk_at dksL_law_7 19 rfl rfl)
theorem dL_law_428 : decode cL_law 428 = .ok (.laload, 1) := dk_47 (dk_at dksL_law_7 20 rfl rfl)
theorem dL_law_429 : decode cL_law 429 = .ok (.iload 6, 2) := dk_21 6 (dk_at dksL_law_7 21 rfl rfl)
theorem dL_law_431 : decode cL_law 431 = .ok (.i2l, 1) := dk_133 (dk_at dksL_law_7 23 rfl rfl)
theorem dL_law_432 : decode cL_law 432 = .ok (.lcmp, 1) := dk_148 (dk_at dksL_law_8 0 rfl rfl)
theorem dL_law_433 : decode cL_law 433 = .ok (.ifCond .eq 5, 3) := dk_153 0 5 (dk_at dksL_law_8 1 rfl rfl)
theorem dL_law_436 : decode cL_law 436 = .ok (.iconst 0, 1) := dk_3 (dk_at dksL_law_8 4 rfl rfl)
theorem dL_law_437 : decode cL_law 437 = .ok (.ireturn, 1) := dk_172 (dk_at dksL_law_8 5 rfl rfl)
theorem dL_law_438 : decode cL_law 438 = .ok (.goto 3282, 3) := dk_167 12 210 (dk_at dksL_law_8 6 rfl rfl)
theorem dL_law_441 : decode cL_law 441 = .ok (.aload_n 1, 1) := dk_43 (dk_at dksL_law_8 9 rfl rfl)
theorem dL_law_442 : decode cL_law 442 = .ok (.invokevirtual 188, 3) := dk_182 0 188 (dk_at dksL_law_8 10 rfl rfl)
theorem dL_law_445 : decode cL_law 445 = .ok (.aload_n 2, 1) := dk_44 (dk_at dksL_law_8 13 rfl rfl)
theorem dL_law_446 : decode cL_law 446 = .ok (.invokevirtual 191, 3) := dk_182 0 191 (dk_at dksL_law_8 14 rfl rfl)
theorem dL_law_449 : decode cL_law 449 = .ok (.if_icmp .eq 3271, 3) := dk_159 12 199 (dk_at dksL_law_8 17 rfl rfl)
theorem dL_law_452 : decode cL_law 452 = .ok (.iconst 0, 1) := dk_3 (dk_at dksL_law_8 20 rfl rfl)
theorem dL_law_453 : decode cL_law 453 = .ok (.ireturn, 1) := dk_172 (dk_at dksL_law_8 21 rfl rfl)
theorem dL_law_454 : decode cL_law 454 = .ok (.aload_n 1, 1) := dk_43 (dk_at dksL_law_8 22 rfl rfl)
theorem dL_law_455 : decode cL_law 455 = .ok (.invokevirtual 192, 3) := dk_182 0 192 (dk_at dksL_law_9 0 rfl rfl)
theorem dL_law_458 : decode cL_law 458 = .ok (.aload_n 2, 1) := dk_44 (dk_at dksL_law_9 3 rfl rfl)
theorem dL_law_459 : decode cL_law 459 = .ok (.invokevirtual 195, 3) := dk_182 0 195 (dk_at dksL_law_9 4 rfl rfl)
theorem dL_law_462 : decode cL_law 462 = .ok (.if_icmp .eq 3258, 3) := dk_159 12 186 (dk_at dksL_law_9 7 rfl rfl)
theorem dL_law_465 : decode cL_law 465 = .ok (.iconst 0, 1) := dk_3 (dk_at dksL_law_9 10 rfl rfl)
theorem dL_law_466 : decode cL_law 466 = .ok (.ireturn, 1) := dk_172 (dk_at dksL_law_9 11 rfl rfl)
theorem dL_law_467 : decode cL_law 467 = .ok (.aload_n 1, 1) := dk_43 (dk_at dksL_law_9 12 rfl rfl)
theorem dL_law_468 : decode cL_law 468 = .ok (.invokevirtual 196, 3) := dk_182 0 196 (dk_at dksL_law_9 13 rfl rfl)
theorem dL_law_471 : decode cL_law 471 = .ok (.aload_n 2, 1) := dk_44 (dk_at dksL_law_9 16 rfl rfl)
theorem dL_law_472 : decode cL_law 472 = .ok (.invokevirtual 199, 3) := dk_182 0 199 (dk_at dksL_law_9 17 rfl rfl)
theorem dL_law_475 : decode cL_law 475 = .ok (.if_icmp .eq 3245, 3) := dk_159 12 173 (dk_at dksL_law_9 20 rfl rfl)
theorem dL_law_478 : decode cL_law 478 = .ok (.iconst 0, 1) := dk_3 (dk_at dksL_law_9 23 rfl rfl)
theorem dL_law_479 : decode cL_law 479 = .ok (.ireturn, 1) := dk_172 (dk_at dksL_law_10 0 rfl rfl)
theorem dL_law_480 : decode cL_law 480 = .ok (.aload_n 1, 1) := dk_43 (dk_at dksL_law_10 1 rfl rfl)
theorem dL_law_481 : decode cL_law 481 = .ok (.aload_n 0, 1) := dk_42 (dk_at dksL_law_10 2 rfl rfl)
theorem dL_law_482 : decode cL_law 482 = .ok (.iload 4, 2) := dk_21 4 (dk_at dksL_law_10 3 rfl rfl)
theorem dL_law_484 : decode cL_law 484 = .ok (.iconst 1, 1) := dk_4 (dk_at dksL_law_10 5 rfl rfl)
theorem dL_law_485 : decode cL_law 485 = .ok (.iadd, 1) := dk_96 (dk_at dksL_law_10 6 rfl rfl)
theorem dL_law_486 : decode cL_law 486 = .ok (.iaload, 1) := dk_46 (dk_at dksL_law_10 7 rfl rfl)
theorem dL_law_487 : decode cL_law 487 = .ok (.aload_n 3, 1) := dk_45 (dk_at dksL_law_10 8 rfl rfl)
theorem dL_law_488 : decode cL_law 488 = .ok (.invokestatic 200, 3) := dk_184 0 200 (dk_at dksL_law_10 9 rfl rfl)
theorem dL_law_491 : decode cL_law 491 = .ok (.istore 5, 2) := dk_54 5 (dk_at dksL_law_10 12 rfl rfl)
theorem dL_law_493 : decode cL_law 493 = .ok (.aload_n 2, 1) := dk_44 (dk_at dksL_law_10 14 rfl rfl)
theorem dL_law_494 : decode cL_law 494 = .ok (.aload_n 0, 1) := dk_42 (dk_at dksL_law_10 15 rfl rfl)
theorem dL_law_495 : decode cL_law 495 = .ok (.iload 4, 2) := dk_21 4 (dk_at dksL_law_10 16 rfl rfl)
theorem dL_law_497 : decode cL_law 497 = .ok (.iconst 1, 1) := dk_4 (dk_at dksL_law_10 18 rfl rfl)
theorem dL_law_498 : decode cL_law 498 = .ok (.iadd, 1) := dk_96 (dk_at dksL_law_10 19 rfl rfl)
theorem dL_law_499 : decode cL_law 499 = .ok (.iaload, 1) := dk_46 (dk_at dksL_law_10 20 rfl rfl)
theorem dL_law_500 : decode cL_law 500 = .ok (.invokevirtual 202, 3) := dk_182 0 202 (dk_at dksL_law_10 21 rfl rfl)
theorem dL_law_503 : decode cL_law 503 = .ok (.istore 6, 2) := dk_54 6 (dk_at dksL_law_11 0 rfl rfl)
theorem dL_law_505 : decode cL_law 505 = .ok (.aload_n 2, 1) := dk_44 (dk_at dksL_law_11 2 rfl rfl)
theorem dL_law_506 : decode cL_law 506 = .ok (.invokevirtual 185, 3) := dk_182 0 185 (dk_at dksL_law_11 3 rfl rfl)
theorem dL_law_509 : decode cL_law 509 = .ok (.iload 5, 2) := dk_21 5 (dk_at dksL_law_11 6 rfl rfl)
theorem dL_law_511 : decode cL_law 511 = .ok (.if_icmp .eq 5, 3) := dk_159 0 5 (dk_at dksL_law_11 8 rfl rfl)
theorem dL_law_514 : decode cL_law 514 = .ok (.iconst 0, 1) := dk_3 (dk_at dksL_law_11 11 rfl rfl)
theorem dL_law_515 : decode cL_law 515 = .ok (.ireturn, 1) := dk_172 (dk_at dksL_law_11 12 rfl rfl)
theorem dL_law_516 : decode cL_law 516 = .ok (.iload 5, 2) := dk_21 5 (dk_at dksL_law_11 13 rfl rfl)
theorem dL_law_518 : decode cL_law 518 = .ok (.ifCond .ne 15, 3) := dk_154 0 15 (dk_at dksL_law_11 15 rfl rfl)
theorem dL_law_521 : decode cL_law 521 = .ok (.aload_n 3, 1) := dk_45 (dk_at dksL_law_11 18 rfl rfl)
theorem dL_law_522 : decode cL_law 522 = .ok (.iconst 0, 1) := dk_3 (dk_at dksL_law_11 19 rfl rfl)
theorem dL_law_523 : decode cL_law 523 = .ok (.laload, 1) := dk_47 (dk_at dksL_law_11 20 rfl rfl)
theorem dL_law_524 : decode cL_law 524 = .ok (.iload 6, 2) := dk_21 6 (dk_at dksL_law_11 21 rfl rfl)
theorem dL_law_526 : decode cL_law 526 = .ok (.i2l, 1) := dk_133 (dk_at dksL_law_11 23 rfl rfl)
theorem dL_law_527 : decode cL_law 527 = .ok (.lcmp, 1) := dk_148 (dk_at dksL_law_12 0 rfl rfl)
theorem dL_law_528 : decode cL_law 528 = .ok (.ifCond .eq 5, 3) := dk_153 0 5 (dk_at dksL_law_12 1 rfl rfl)
theorem dL_law_531 : decode cL_law 531 = .ok (.iconst 0, 1) := dk_3 (dk_at dksL_law_12 4 rfl rfl)
theorem dL_law_532 : decode cL_law 532 = .ok (.ireturn, 1) := dk_172 (dk_at dksL_law_12 5 rfl rfl)
theorem dL_law_533 : decode cL_law 533 = .ok (.goto 3187, 3) := dk_167 12 115 (dk_at dksL_law_12 6 rfl rfl)
theorem dL_law_536 : decode cL_law 536 = .ok (.aload_n 1, 1) := dk_43 (dk_at dksL_law_12 9 rfl rfl)
theorem dL_law_537 : decode cL_law 537 = .ok (.aload_n 0, 1) := dk_42 (dk_at dksL_law_12 10 rfl rfl)
theorem dL_law_538 : decode cL_law 538 = .ok (.iload 4, 2) := dk_21 4 (dk_at dksL_law_12 11 rfl rfl)
theorem dL_law_540 : decode cL_law 540 = .ok (.iconst 1, 1) := dk_4 (dk_at dksL_law_12 13 rfl rfl)
theorem dL_law_541 : decode cL_law 541 = .ok (.iadd, 1) := dk_96 (dk_at dksL_law_12 14 rfl rfl)
theorem dL_law_542 : decode cL_law 542 = .ok (.iaload, 1) := dk_46 (dk_at dksL_law_12 15 rfl rfl)
theorem dL_law_543 : decode cL_law 543 = .ok (.aload_n 0, 1) := dk_42 (dk_at dksL_law_12 16 rfl rfl)
theorem dL_law_544 : decode cL_law 544 = .ok (.iload 4, 2) := dk_21 4 (dk_at dksL_law_12 17 rfl rfl)
theorem dL_law_546 : decode cL_law 546 = .ok (.iconst 2, 1) := dk_5 (dk_at dksL_law_12 19 rfl rfl)
theorem dL_law_547 : decode cL_law 547 = .ok (.iadd, 1) := dk_96 (dk_at dksL_law_12 20 rfl rfl)
theorem dL_law_548 : decode cL_law 548 = .ok (.iaload, 1) := dk_46 (dk_at dksL_law_12 21 rfl rfl)
theorem dL_law_549 : decode cL_law 549 = .ok (.aload_n 3, 1) := dk_45 (dk_at dksL_law_12 22 rfl rfl)
theorem dL_law_550 : decode cL_law 550 = .ok (.invokestatic 203, 3) := dk_184 0 203 (dk_at dksL_law_13 0 rfl rfl)
theorem dL_law_553 : decode cL_law 553 = .ok (.istore 5, 2) := dk_54 5 (dk_at dksL_law_13 3 rfl rfl)
theorem dL_law_555 : decode cL_law 555 = .ok (.aload_n 2, 1) := dk_44 (dk_at dksL_law_13 5 rfl rfl)
theorem dL_law_556 : decode cL_law 556 = .ok (.aload_n 0, 1) := dk_42 (dk_at dksL_law_13 6 rfl rfl)
theorem dL_law_557 : decode cL_law 557 = .ok (.iload 4, 2) := dk_21 4 (dk_at dksL_law_13 7 rfl rfl)
theorem dL_law_559 : decode cL_law 559 = .ok (.iconst 1, 1) := dk_4 (dk_at dksL_law_13 9 rfl rfl)
theorem dL_law_560 : decode cL_law 560 = .ok (.iadd, 1) := dk_96 (dk_at dksL_law_13 10 rfl rfl)
theorem dL_law_561 : decode cL_law 561 = .ok (.iaload, 1) := dk_46 (dk_at dksL_law_13 11 rfl rfl)
theorem dL_law_562 : decode cL_law 562 = .ok (.aload_n 0, 1) := dk_42 (dk_at dksL_law_13 12 rfl rfl)
theorem dL_law_563 : decode cL_law 563 = .ok (.iload 4, 2) := dk_21 4 (dk_at dksL_law_13 13 rfl rfl)
theorem dL_law_565 : decode cL_law 565 = .ok (.iconst 2, 1) := dk_5 (dk_at dksL_law_13 15 rfl rfl)
theorem dL_law_566 : decode cL_law 566 = .ok (.iadd, 1) := dk_96 (dk_at dksL_law_13 16 rfl rfl)
theorem dL_law_567 : decode cL_law 567 = .ok (.iaload, 1) := dk_46 (dk_at dksL_law_13 17 rfl rfl)
theorem dL_law_568 : decode cL_law 568 = .ok (.invokevirtual 206, 3) := dk_182 0 206 (dk_at dksL_law_13 18 rfl rfl)
theorem dL_law_571 : decode cL_law 571 = .ok (.istore 6, 2) := dk_54 6 (dk_at dksL_law_13 21 rfl rfl)
theorem dL_law_573 : decode cL_law 573 = .ok (.aload_n 2, 1) := dk_44 (dk_at dksL_law_13 23 rfl rfl)
theorem dL_law_574 : decode cL_law 574 = .ok (.invokevirtual 185, 3) := dk_182 0 185 (dk_at dksL_law_14 0 rfl rfl)
theorem dL_law_577 : decode cL_law 577 = .ok (.iload 5, 2) := dk_21 5 (dk_at dksL_law_14 3 rfl rfl)
theorem dL_law_579 : decode cL_law 579 = .ok (.if_icmp .eq 5, 3) := dk_159 0 5 (dk_at dksL_law_14 5 rfl rfl)
theorem dL_law_582 : decode cL_law 582 = .ok (.iconst 0, 1) := dk_3 (dk_at dksL_law_14 8 rfl rfl)
theorem dL_law_583 : decode cL_law 583 = .ok (.ireturn, 1) := dk_172 (dk_at dksL_law_14 9 rfl rfl)
theorem dL_law_584 : decode cL_law 584 = .ok (.iload 5, 2) := dk_21 5 (dk_at dksL_law_14 10 rfl rfl)
theorem dL_law_586 : decode cL_law 586 = .ok (.ifCond .ne 15, 3) := dk_154 0 15 (dk_at dksL_law_14 12 rfl rfl)
theorem dL_law_589 : decode cL_law 589 = .ok (.aload_n 3, 1) := dk_45 (dk_at dksL_law_14 15 rfl rfl)
theorem dL_law_590 : decode cL_law 590 = .ok (.iconst 0, 1) := dk_3 (dk_at dksL_law_14 16 rfl rfl)
theorem dL_law_591 : decode cL_law 591 = .ok (.laload, 1) := dk_47 (dk_at dksL_law_14 17 rfl rfl)
theorem dL_law_592 : decode cL_law 592 = .ok (.iload 6, 2) := dk_21 6 (dk_at dksL_law_14 18 rfl rfl)
theorem dL_law_594 : decode cL_law 594 = .ok (.i2l, 1) := dk_133 (dk_at dksL_law_14 20 rfl rfl)
theorem dL_law_595 : decode cL_law 595 = .ok (.lcmp, 1) := dk_148 (dk_at dksL_law_14 21 rfl rfl)
theorem dL_law_596 : decode cL_law 596 = .ok (.ifCond .eq 5, 3) := dk_153 0 5 (dk_at dksL_law_15 0 rfl rfl)
theorem dL_law_599 : decode cL_law 599 = .ok (.iconst 0, 1) := dk_3 (dk_at dksL_law_15 3 rfl rfl)
theorem dL_law_600 : decode cL_law 600 = .ok (.ireturn, 1) := dk_172 (dk_at dksL_law_15 4 rfl rfl)
theorem dL_law_601 : decode cL_law 601 = .ok (.goto 3119, 3) := dk_167 12 47 (dk_at dksL_law_15 5 rfl rfl)
theorem dL_law_604 : decode cL_law 604 = .ok (.aload_n 1, 1) := dk_43 (dk_at dksL_law_15 8 rfl rfl)
theorem dL_law_605 : decode cL_law 605 = .ok (.aload_n 0, 1) := dk_42 (dk_at dksL_law_15 9 rfl rfl)
theorem dL_law_606 : decode cL_law 606 = .ok (.iload 4, 2) := dk_21 4 (dk_at dksL_law_15 10 rfl rfl)
theorem dL_law_608 : decode cL_law 608 = .ok (.iconst 1, 1) := dk_4 (dk_at dksL_law_15 12 rfl rfl)
theorem dL_law_609 : decode cL_law 609 = .ok (.iadd, 1) := dk_96 (dk_at dksL_law_15 13 rfl rfl)
theorem dL_law_610 : decode cL_law 610 = .ok (.iaload, 1) := dk_46 (dk_at dksL_law_15 14 rfl rfl)
theorem dL_law_611 : decode cL_law 611 = .ok (.aload_n 0, 1) := dk_42 (dk_at dksL_law_15 15 rfl rfl)
theorem dL_law_612 : decode cL_law 612 = .ok (.iload 4, 2) := dk_21 4 (dk_at dksL_law_15 16 rfl rfl)
theorem dL_law_614 : decode cL_law 614 = .ok (.iconst 2, 1) := dk_5 (dk_at dksL_law_15 18 rfl rfl)
theorem dL_law_615 : decode cL_law 615 = .ok (.iadd, 1) := dk_96 (dk_at dksL_law_15 19 rfl rfl)
theorem dL_law_616 : decode cL_law 616 = .ok (.iaload, 1) := dk_46 (dk_at dksL_law_15 20 rfl rfl)
theorem dL_law_617 : decode cL_law 617 = .ok (.aload_n 3, 1) := dk_45 (dk_at dksL_law_15 21 rfl rfl)
theorem dL_law_618 : decode cL_law 618 = .ok (.invokestatic 207, 3) := dk_184 0 207 (dk_at dksL_law_16 0 rfl rfl)
theorem dL_law_621 : decode cL_law 621 = .ok (.istore 5, 2) := dk_54 5 (dk_at dksL_law_16 3 rfl rfl)
theorem dL_law_623 : decode cL_law 623 = .ok (.aload_n 2, 1) := dk_44 (dk_at dksL_law_16 5 rfl rfl)
theorem dL_law_624 : decode cL_law 624 = .ok (.aload_n 0, 1) := dk_42 (dk_at dksL_law_16 6 rfl rfl)
theorem dL_law_625 : decode cL_law 625 = .ok (.iload 4, 2) := dk_21 4 (dk_at dksL_law_16 7 rfl rfl)
theorem dL_law_627 : decode cL_law 627 = .ok (.iconst 1, 1) := dk_4 (dk_at dksL_law_16 9 rfl rfl)
theorem dL_law_628 : decode cL_law 628 = .ok (.iadd, 1) := dk_96 (dk_at dksL_law_16 10 rfl rfl)
theorem dL_law_629 : decode cL_law 629 = .ok (.iaload, 1) := dk_46 (dk_at dksL_law_16 11 rfl rfl)
theorem dL_law_630 : decode cL_law 630 = .ok (.aload_n 0, 1) := dk_42 (dk_at dksL_law_16 12 rfl rfl)
theorem dL_law_631 : decode cL_law 631 = .ok (.iload 4, 2) := dk_21 4 (dk_at dksL_law_16 13 rfl rfl)
theorem dL_law_633 : decode cL_law 633 = .ok (.iconst 2, 1) := dk_5 (dk_at dksL_law_16 15 rfl rfl)
theorem dL_law_634 : decode cL_law 634 = .ok (.iadd, 1) := dk_96 (dk_at dksL_law_16 16 rfl rfl)
theorem dL_law_635 : decode cL_law 635 = .ok (.iaload, 1) := dk_46 (dk_at dksL_law_16 17 rfl rfl)
theorem dL_law_636 : decode cL_law 636 = .ok (.invokevirtual 209, 3) := dk_182 0 209 (dk_at dksL_law_16 18 rfl rfl)
theorem dL_law_639 : decode cL_law 639 = .ok (.istore 6, 2) := dk_54 6 (dk_at dksL_law_16 21 rfl rfl)
theorem dL_law_641 : decode cL_law 641 = .ok (.aload_n 2, 1) := dk_44 (dk_at dksL_law_16 23 rfl rfl)
theorem dL_law_642 : decode cL_law 642 = .ok (.invokevirtual 185, 3) := dk_182 0 185 (dk_at dksL_law_17 0 rfl rfl)
theorem dL_law_645 : decode cL_law 645 = .ok (.iload 5, 2) := dk_21 5 (dk_at dksL_law_17 3 rfl rfl)
theorem dL_law_647 : decode cL_law 647 = .ok (.if_icmp .eq 5, 3) := dk_159 0 5 (dk_at dksL_law_17 5 rfl rfl)
theorem dL_law_650 : decode cL_law 650 = .ok (.iconst 0, 1) := dk_3 (dk_at dksL_law_17 8 rfl rfl)
theorem dL_law_651 : decode cL_law 651 = .ok (.ireturn, 1) := dk_172 (dk_at dksL_law_17 9 rfl rfl)
theorem dL_law_652 : decode cL_law 652 = .ok (.iload 5, 2) := dk_21 5 (dk_at dksL_law_17 10 rfl rfl)
theorem dL_law_654 : decode cL_law 654 = .ok (.ifCond .ne 15, 3) := dk_154 0 15 (dk_at dksL_law_17 12 rfl rfl)
theorem dL_law_657 : decode cL_law 657 = .ok (.aload_n 3, 1) := dk_45 (dk_at dksL_law_17 15 rfl rfl)
theorem dL_law_658 : decode cL_law 658 = .ok (.iconst 0, 1) := dk_3 (dk_at dksL_law_17 16 rfl rfl)
theorem dL_law_659 : decode cL_law 659 = .ok (.laload, 1) := dk_47 (dk_at dksL_law_17 17 rfl rfl)
theorem dL_law_660 : decode cL_law 660 = .ok (.iload 6, 2) := dk_21 6 (dk_at dksL_law_17 18 rfl rfl)
theorem dL_law_662 : decode cL_law 662 = .ok (.i2l, 1) := dk_133 (dk_at dksL_law_17 20 rfl rfl)
theorem dL_law_663 : decode cL_law 663 = .ok (.lcmp, 1) := dk_148 (dk_at dksL_law_17 21 rfl rfl)
theorem dL_law_664 : decode cL_law 664 = .ok (.ifCond .eq 5, 3) := dk_153 0 5 (dk_at dksL_law_18 0 rfl rfl)
theorem dL_law_667 : decode cL_law 667 = .ok (.iconst 0, 1) := dk_3 (dk_at dksL_law_18 3 rfl rfl)
theorem dL_law_668 : decode cL_law 668 = .ok (.ireturn, 1) := dk_172 (dk_at dksL_law_18 4 rfl rfl)
theorem dL_law_669 : decode cL_law 669 = .ok (.goto 3051, 3) := dk_167 11 235 (dk_at dksL_law_18 5 rfl rfl)
theorem dL_law_672 : decode cL_law 672 = .ok (.aload_n 1, 1) := dk_43 (dk_at dksL_law_18 8 rfl rfl)
theorem dL_law_673 : decode cL_law 673 = .ok (.aload_n 0, 1) := dk_42 (dk_at dksL_law_18 9 rfl rfl)
theorem dL_law_674 : decode cL_law 674 = .ok (.iload 4, 2) := dk_21 4 (dk_at dksL_law_18 10 rfl rfl)
theorem dL_law_676 : decode cL_law 676 = .ok (.iconst 1, 1) := dk_4 (dk_at dksL_law_18 12 rfl rfl)
theorem dL_law_677 : decode cL_law 677 = .ok (.iadd, 1) := dk_96 (dk_at dksL_law_18 13 rfl rfl)
theorem dL_law_678 : decode cL_law 678 = .ok (.iaload, 1) := dk_46 (dk_at dksL_law_18 14 rfl rfl)
theorem dL_law_679 : decode cL_law 679 = .ok (.invokevirtual 210, 3) := dk_182 0 210 (dk_at dksL_law_18 15 rfl rfl)
theorem dL_law_682 : decode cL_law 682 = .ok (.aload_n 2, 1) := dk_44 (dk_at dksL_law_18 18 rfl rfl)
theorem dL_law_683 : decode cL_law 683 = .ok (.aload_n 0, 1) := dk_42 (dk_at dksL_law_18 19 rfl rfl)
theorem dL_law_684 : decode cL_law 684 = .ok (.iload 4, 2) := dk_21 4 (dk_at dksL_law_18 20 rfl rfl)
theorem dL_law_686 : decode cL_law 686 = .ok (.iconst 1, 1) := dk_4 (dk_at dksL_law_18 22 rfl rfl)
theorem dL_law_687 : decode cL_law 687 = .ok (.iadd, 1) := dk_96 (dk_at dksL_law_18 23 rfl rfl)
theorem dL_law_688 : decode cL_law 688 = .ok (.iaload, 1) := dk_46 (dk_at dksL_law_19 0 rfl rfl)
theorem dL_law_689 : decode cL_law 689 = .ok (.invokevirtual 213, 3) := dk_182 0 213 (dk_at dksL_law_19 1 rfl rfl)
theorem dL_law_692 : decode cL_law 692 = .ok (.if_icmp .eq 3028, 3) := dk_159 11 212 (dk_at dksL_law_19 4 rfl rfl)
theorem dL_law_695 : decode cL_law 695 = .ok (.iconst 0, 1) := dk_3 (dk_at dksL_law_19 7 rfl rfl)
theorem dL_law_696 : decode cL_law 696 = .ok (.ireturn, 1) := dk_172 (dk_at dksL_law_19 8 rfl rfl)
theorem dL_law_697 : decode cL_law 697 = .ok (.aload_n 1, 1) := dk_43 (dk_at dksL_law_19 9 rfl rfl)
theorem dL_law_698 : decode cL_law 698 = .ok (.aload_n 0, 1) := dk_42 (dk_at dksL_law_19 10 rfl rfl)
theorem dL_law_699 : decode cL_law 699 = .ok (.iload 4, 2) := dk_21 4 (dk_at dksL_law_19 11 rfl rfl)
theorem dL_law_701 : decode cL_law 701 = .ok (.iconst 1, 1) := dk_4 (dk_at dksL_law_19 13 rfl rfl)
theorem dL_law_702 : decode cL_law 702 = .ok (.iadd, 1) := dk_96 (dk_at dksL_law_19 14 rfl rfl)
theorem dL_law_703 : decode cL_law 703 = .ok (.iaload, 1) := dk_46 (dk_at dksL_law_19 15 rfl rfl)
theorem dL_law_704 : decode cL_law 704 = .ok (.aload_n 3, 1) := dk_45 (dk_at dksL_law_19 16 rfl rfl)
theorem dL_law_705 : decode cL_law 705 = .ok (.invokestatic 214, 3) := dk_184 0 214 (dk_at dksL_law_19 17 rfl rfl)
theorem dL_law_708 : decode cL_law 708 = .ok (.istore 5, 2) := dk_54 5 (dk_at dksL_law_19 20 rfl rfl)
theorem dL_law_710 : decode cL_law 710 = .ok (.aload_n 2, 1) := dk_44 (dk_at dksL_law_19 22 rfl rfl)
theorem dL_law_711 : decode cL_law 711 = .ok (.aload_n 0, 1) := dk_42 (dk_at dksL_law_19 23 rfl rfl)
theorem dL_law_712 : decode cL_law 712 = .ok (.iload 4, 2) := dk_21 4 (dk_at dksL_law_20 0 rfl rfl)
theorem dL_law_714 : decode cL_law 714 = .ok (.iconst 1, 1) := dk_4 (dk_at dksL_law_20 2 rfl rfl)
theorem dL_law_715 : decode cL_law 715 = .ok (.iadd, 1) := dk_96 (dk_at dksL_law_20 3 rfl rfl)
theorem dL_law_716 : decode cL_law 716 = .ok (.iaload, 1) := dk_46 (dk_at dksL_law_20 4 rfl rfl)
theorem dL_law_717 : decode cL_law 717 = .ok (.invokevirtual 216, 3) := dk_182 0 216 (dk_at dksL_law_20 5 rfl rfl)
theorem dL_law_720 : decode cL_law 720 = .ok (.istore 6, 2) := dk_54 6 (dk_at dksL_law_20 8 rfl rfl)
theorem dL_law_722 : decode cL_law 722 = .ok (.aload_n 2, 1) := dk_44 (dk_at dksL_law_20 10 rfl rfl)
theorem dL_law_723 : decode cL_law 723 = .ok (.invokevirtual 185, 3) := dk_182 0 185 (dk_at dksL_law_20 11 rfl rfl)
theorem dL_law_726 : decode cL_law 726 = .ok (.iload 5, 2) := dk_21 5 (dk_at dksL_law_20 14 rfl rfl)
theorem dL_law_728 : decode cL_law 728 = .ok (.if_icmp .eq 5, 3) := dk_159 0 5 (dk_at dksL_law_20 16 rfl rfl)
theorem dL_law_731 : decode cL_law 731 = .ok (.iconst 0, 1) := dk_3 (dk_at dksL_law_20 19 rfl rfl)
theorem dL_law_732 : decode cL_law 732 = .ok (.ireturn, 1) := dk_172 (dk_at dksL_law_20 20 rfl rfl)
theorem dL_law_733 : decode cL_law 733 = .ok (.iload 5, 2) := dk_21 5 (dk_at dksL_law_20 21 rfl rfl)
theorem dL_law_735 : decode cL_law 735 = .ok (.ifCond .ne 15, 3) := dk_154 0 15 (dk_at dksL_law_21 0 rfl rfl)
theorem dL_law_738 : decode cL_law 738 = .ok (.aload_n 3, 1) := dk_45 (dk_at dksL_law_21 3 rfl rfl)
theorem dL_law_739 : decode cL_law 739 = .ok (.iconst 0, 1) := dk_3 (dk_at dksL_law_21 4 rfl rfl)
theorem dL_law_740 : decode cL_law 740 = .ok (.laload, 1) := dk_47 (dk_at dksL_law_21 5 rfl rfl)
theorem dL_law_741 : decode cL_law 741 = .ok (.iload 6, 2) := dk_21 6 (dk_at dksL_law_21 6 rfl rfl)
theorem dL_law_743 : decode cL_law 743 = .ok (.i2l, 1) := dk_133 (dk_at dksL_law_21 8 rfl rfl)
theorem dL_law_744 : decode cL_law 744 = .ok (.lcmp, 1) := dk_148 (dk_at dksL_law_21 9 rfl rfl)
theorem dL_law_745 : decode cL_law 745 = .ok (.ifCond .eq 5, 3) := dk_153 0 5 (dk_at dksL_law_21 10 rfl rfl)
theorem dL_law_748 : decode cL_law 748 = .ok (.iconst 0, 1) := dk_3 (dk_at dksL_law_21 13 rfl rfl)
theorem dL_law_749 : decode cL_law 749 = .ok (.ireturn, 1) := dk_172 (dk_at dksL_law_21 14 rfl rfl)
theorem dL_law_750 : decode cL_law 750 = .ok (.goto 2970, 3) := dk_167 11 154 (dk_at dksL_law_21 15 rfl rfl)
theorem dL_law_753 : decode cL_law 753 = .ok (.aload_n 1, 1) := dk_43 (dk_at dksL_law_21 18 rfl rfl)
theorem dL_law_754 : decode cL_law 754 = .ok (.aload_n 0, 1) := dk_42 (dk_at dksL_law_21 19 rfl rfl)
theorem dL_law_755 : decode cL_law 755 = .ok (.iload 4, 2) := dk_21 4 (dk_at dksL_law_21 20 rfl rfl)
theorem dL_law_757 : decode cL_law 757 = .ok (.iconst 1, 1) := dk_4 (dk_at dksL_law_21 22 rfl rfl)
theorem dL_law_758 : decode cL_law 758 = .ok (.iadd, 1) := dk_96 (dk_at dksL_law_21 23 rfl rfl)
theorem dL_law_759 : decode cL_law 759 = .ok (.iaload, 1) := dk_46 (dk_at dksL_law_22 0 rfl rfl)
theorem dL_law_760 : decode cL_law 760 = .ok (.aload_n 3, 1) := dk_45 (dk_at dksL_law_22 1 rfl rfl)
theorem dL_law_761 : decode cL_law 761 = .ok (.invokestatic 217, 3) := dk_184 0 217 (dk_at dksL_law_22 2 rfl rfl)
theorem dL_law_764 : decode cL_law 764 = .ok (.istore 5, 2) := dk_54 5 (dk_at dksL_law_22 5 rfl rfl)
theorem dL_law_766 : decode cL_law 766 = .ok (.aload_n 2, 1) := dk_44 (dk_at dksL_law_22 7 rfl rfl)
theorem dL_law_767 : decode cL_law 767 = .ok (.aload_n 0, 1) := dk_42 (dk_at dksL_law_22 8 rfl rfl)
theorem dL_law_768 : decode cL_law 768 = .ok (.iload 4, 2) := dk_21 4 (dk_at dksL_law_22 9 rfl rfl)
theorem dL_law_770 : decode cL_law 770 = .ok (.iconst 1, 1) := dk_4 (dk_at dksL_law_22 11 rfl rfl)
theorem dL_law_771 : decode cL_law 771 = .ok (.iadd, 1) := dk_96 (dk_at dksL_law_22 12 rfl rfl)
theorem dL_law_772 : decode cL_law 772 = .ok (.iaload, 1) := dk_46 (dk_at dksL_law_22 13 rfl rfl)
theorem dL_law_773 : decode cL_law 773 = .ok (.invokevirtual 219, 3) := dk_182 0 219 (dk_at dksL_law_22 14 rfl rfl)
theorem dL_law_776 : decode cL_law 776 = .ok (.istore 6, 2) := dk_54 6 (dk_at dksL_law_22 17 rfl rfl)
theorem dL_law_778 : decode cL_law 778 = .ok (.aload_n 2, 1) := dk_44 (dk_at dksL_law_22 19 rfl rfl)
theorem dL_law_779 : decode cL_law 779 = .ok (.invokevirtual 185, 3) := dk_182 0 185 (dk_at dksL_law_22 20 rfl rfl)
theorem dL_law_782 : decode cL_law 782 = .ok (.iload 5, 2) := dk_21 5 (dk_at dksL_law_23 0 rfl rfl)
theorem dL_law_784 : decode cL_law 784 = .ok (.if_icmp .eq 5, 3) := dk_159 0 5 (dk_at dksL_law_23 2 rfl rfl)
theorem dL_law_787 : decode cL_law 787 = .ok (.iconst 0, 1) := dk_3 (dk_at dksL_law_23 5 rfl rfl)
theorem dL_law_788 : decode cL_law 788 = .ok (.ireturn, 1) := dk_172 (dk_at dksL_law_23 6 rfl rfl)
theorem dL_law_789 : decode cL_law 789 = .ok (.iload 5, 2) := dk_21 5 (dk_at dksL_law_23 7 rfl rfl)
theorem dL_law_791 : decode cL_law 791 = .ok (.ifCond .ne 15, 3) := dk_154 0 15 (dk_at dksL_law_23 9 rfl rfl)
theorem dL_law_794 : decode cL_law 794 = .ok (.aload_n 3, 1) := dk_45 (dk_at dksL_law_23 12 rfl rfl)
theorem dL_law_795 : decode cL_law 795 = .ok (.iconst 0, 1) := dk_3 (dk_at dksL_law_23 13 rfl rfl)
theorem dL_law_796 : decode cL_law 796 = .ok (.laload, 1) := dk_47 (dk_at dksL_law_23 14 rfl rfl)
theorem dL_law_797 : decode cL_law 797 = .ok (.iload 6, 2) := dk_21 6 (dk_at dksL_law_23 15 rfl rfl)
theorem dL_law_799 : decode cL_law 799 = .ok (.i2l, 1) := dk_133 (dk_at dksL_law_23 17 rfl rfl)
theorem dL_law_800 : decode cL_law 800 = .ok (.lcmp, 1) := dk_148 (dk_at dksL_law_23 18 rfl rfl)
theorem dL_law_801 : decode cL_law 801 = .ok (.ifCond .eq 5, 3) := dk_153 0 5 (dk_at dksL_law_23 19 rfl rfl)
theorem dL_law_804 : decode cL_law 804 = .ok (.iconst 0, 1) := dk_3 (dk_at dksL_law_23 22 rfl rfl)
theorem dL_law_805 : decode cL_law 805 = .ok (.ireturn, 1) := dk_172 (dk_at dksL_law_23 23 rfl rfl)
theorem dL_law_806 : decode cL_law 806 = .ok (.goto 2914, 3) := dk_167 11 98 (dk_at dksL_law_24 0 rfl rfl)
theorem dL_law_809 : decode cL_law 809 = .ok (.aload_n 1, 1) := dk_43 (dk_at dksL_law_24 3 rfl rfl)
theorem dL_law_810 : decode cL_law 810 = .ok (.aload_n 0, 1) := dk_42 (dk_at dksL_law_24 4 rfl rfl)
theorem dL_law_811 : decode cL_law 811 = .ok (.iload 4, 2) := dk_21 4 (dk_at dksL_law_24 5 rfl rfl)
theorem dL_law_813 : decode cL_law 813 = .ok (.iconst 1, 1) := dk_4 (dk_at dksL_law_24 7 rfl rfl)
theorem dL_law_814 : decode cL_law 814 = .ok (.iadd, 1) := dk_96 (dk_at dksL_law_24 8 rfl rfl)
theorem dL_law_815 : decode cL_law 815 = .ok (.iaload, 1) := dk_46 (dk_at dksL_law_24 9 rfl rfl)
theorem dL_law_816 : decode cL_law 816 = .ok (.aload_n 0, 1) := dk_42 (dk_at dksL_law_24 10 rfl rfl)
theorem dL_law_817 : decode cL_law 817 = .ok (.iload 4, 2) := dk_21 4 (dk_at dksL_law_24 11 rfl rfl)
theorem dL_law_819 : decode cL_law 819 = .ok (.iconst 2, 1) := dk_5 (dk_at dksL_law_24 13 rfl rfl)
theorem dL_law_820 : decode cL_law 820 = .ok (.iadd, 1) := dk_96 (dk_at dksL_law_24 14 rfl rfl)
theorem dL_law_821 : decode cL_law 821 = .ok (.iaload, 1) := dk_46 (dk_at dksL_law_24 15 rfl rfl)
theorem dL_law_822 : decode cL_law 822 = .ok (.aload_n 3, 1) := dk_45 (dk_at dksL_law_24 16 rfl rfl)
theorem dL_law_823 : decode cL_law 823 = .ok (.invokestatic 220, 3) := dk_184 0 220 (dk_at dksL_law_24 17 rfl rfl)
theorem dL_law_826 : decode cL_law 826 = .ok (.istore 5, 2) := dk_54 5 (dk_at dksL_law_24 20 rfl rfl)
theorem dL_law_828 : decode cL_law 828 = .ok (.aload_n 2, 1) := dk_44 (dk_at dksL_law_24 22 rfl rfl)
theorem dL_law_829 : decode cL_law 829 = .ok (.aload_n 0, 1) := dk_42 (dk_at dksL_law_24 23 rfl rfl)
theorem dL_law_830 : decode cL_law 830 = .ok (.iload 4, 2) := dk_21 4 (dk_at dksL_law_25 0 rfl rfl)
theorem dL_law_832 : decode cL_law 832 = .ok (.iconst 1, 1) := dk_4 (dk_at dksL_law_25 2 rfl rfl)
theorem dL_law_833 : decode cL_law 833 = .ok (.iadd, 1) := dk_96 (dk_at dksL_law_25 3 rfl rfl)
theorem dL_law_834 : decode cL_law 834 = .ok (.iaload, 1) := dk_46 (dk_at dksL_law_25 4 rfl rfl)
theorem dL_law_835 : decode cL_law 835 = .ok (.aload_n 0, 1) := dk_42 (dk_at dksL_law_25 5 rfl rfl)
theorem dL_law_836 : decode cL_law 836 = .ok (.iload 4, 2) := dk_21 4 (dk_at dksL_law_25 6 rfl rfl)
theorem dL_law_838 : decode cL_law 838 = .ok (.iconst 2, 1) := dk_5 (dk_at dksL_law_25 8 rfl rfl)
theorem dL_law_839 : decode cL_law 839 = .ok (.iadd, 1) := dk_96 (dk_at dksL_law_25 9 rfl rfl)
theorem dL_law_840 : decode cL_law 840 = .ok (.iaload, 1) := dk_46 (dk_at dksL_law_25 10 rfl rfl)
theorem dL_law_841 : decode cL_law 841 = .ok (.invokevirtual 222, 3) := dk_182 0 222 (dk_at dksL_law_25 11 rfl rfl)
theorem dL_law_844 : decode cL_law 844 = .ok (.istore 6, 2) := dk_54 6 (dk_at dksL_law_25 14 rfl rfl)
theorem dL_law_846 : decode cL_law 846 = .ok (.aload_n 2, 1) := dk_44 (dk_at dksL_law_25 16 rfl rfl)
theorem dL_law_847 : decode cL_law 847 = .ok (.invokevirtual 185, 3) := dk_182 0 185 (dk_at dksL_law_25 17 rfl rfl)
theorem dL_law_850 : decode cL_law 850 = .ok (.iload 5, 2) := dk_21 5 (dk_at dksL_law_25 20 rfl rfl)
theorem dL_law_852 : decode cL_law 852 = .ok (.if_icmp .eq 5, 3) := dk_159 0 5 (dk_at dksL_law_26 0 rfl rfl)
theorem dL_law_855 : decode cL_law 855 = .ok (.iconst 0, 1) := dk_3 (dk_at dksL_law_26 3 rfl rfl)
theorem dL_law_856 : decode cL_law 856 = .ok (.ireturn, 1) := dk_172 (dk_at dksL_law_26 4 rfl rfl)
theorem dL_law_857 : decode cL_law 857 = .ok (.iload 5, 2) := dk_21 5 (dk_at dksL_law_26 5 rfl rfl)
theorem dL_law_859 : decode cL_law 859 = .ok (.ifCond .ne 15, 3) := dk_154 0 15 (dk_at dksL_law_26 7 rfl rfl)
theorem dL_law_862 : decode cL_law 862 = .ok (.aload_n 3, 1) := dk_45 (dk_at dksL_law_26 10 rfl rfl)
theorem dL_law_863 : decode cL_law 863 = .ok (.iconst 0, 1) := dk_3 (dk_at dksL_law_26 11 rfl rfl)
theorem dL_law_864 : decode cL_law 864 = .ok (.laload, 1) := dk_47 (dk_at dksL_law_26 12 rfl rfl)
theorem dL_law_865 : decode cL_law 865 = .ok (.iload 6, 2) := dk_21 6 (dk_at dksL_law_26 13 rfl rfl)
theorem dL_law_867 : decode cL_law 867 = .ok (.i2l, 1) := dk_133 (dk_at dksL_law_26 15 rfl rfl)
theorem dL_law_868 : decode cL_law 868 = .ok (.lcmp, 1) := dk_148 (dk_at dksL_law_26 16 rfl rfl)
theorem dL_law_869 : decode cL_law 869 = .ok (.ifCond .eq 5, 3) := dk_153 0 5 (dk_at dksL_law_26 17 rfl rfl)
theorem dL_law_872 : decode cL_law 872 = .ok (.iconst 0, 1) := dk_3 (dk_at dksL_law_26 20 rfl rfl)
theorem dL_law_873 : decode cL_law 873 = .ok (.ireturn, 1) := dk_172 (dk_at dksL_law_26 21 rfl rfl)
theorem dL_law_874 : decode cL_law 874 = .ok (.goto 2846, 3) := dk_167 11 30 (dk_at dksL_law_27 0 rfl rfl)
theorem dL_law_877 : decode cL_law 877 = .ok (.aload_n 1, 1) := dk_43 (dk_at dksL_law_27 3 rfl rfl)
theorem dL_law_878 : decode cL_law 878 = .ok (.invokevirtual 223, 3) := dk_182 0 223 (dk_at dksL_law_27 4 rfl rfl)
theorem dL_law_881 : decode cL_law 881 = .ok (.aload_n 2, 1) := dk_44 (dk_at dksL_law_27 7 rfl rfl)
theorem dL_law_882 : decode cL_law 882 = .ok (.invokevirtual 226, 3) := dk_182 0 226 (dk_at dksL_law_27 8 rfl rfl)
theorem dL_law_885 : decode cL_law 885 = .ok (.if_icmp .eq 2835, 3) := dk_159 11 19 (dk_at dksL_law_27 11 rfl rfl)
theorem dL_law_888 : decode cL_law 888 = .ok (.iconst 0, 1) := dk_3 (dk_at dksL_law_27 14 rfl rfl)
theorem dL_law_889 : decode cL_law 889 = .ok (.ireturn, 1) := dk_172 (dk_at dksL_law_27 15 rfl rfl)
theorem dL_law_890 : decode cL_law 890 = .ok (.aload_n 1, 1) := dk_43 (dk_at dksL_law_27 16 rfl rfl)
theorem dL_law_891 : decode cL_law 891 = .ok (.aload_n 0, 1) := dk_42 (dk_at dksL_law_27 17 rfl rfl)
theorem dL_law_892 : decode cL_law 892 = .ok (.iload 4, 2) := dk_21 4 (dk_at dksL_law_27 18 rfl rfl)
theorem dL_law_894 : decode cL_law 894 = .ok (.iconst 1, 1) := dk_4 (dk_at dksL_law_27 20 rfl rfl)
theorem dL_law_895 : decode cL_law 895 = .ok (.iadd, 1) := dk_96 (dk_at dksL_law_27 21 rfl rfl)
theorem dL_law_896 : decode cL_law 896 = .ok (.iaload, 1) := dk_46 (dk_at dksL_law_27 22 rfl rfl)
theorem dL_law_897 : decode cL_law 897 = .ok (.aload_n 0, 1) := dk_42 (dk_at dksL_law_27 23 rfl rfl)
theorem dL_law_898 : decode cL_law 898 = .ok (.iload 4, 2) := dk_21 4 (dk_at dksL_law_28 0 rfl rfl)
theorem dL_law_900 : decode cL_law 900 = .ok (.iconst 2, 1) := dk_5 (dk_at dksL_law_28 2 rfl rfl)
theorem dL_law_901 : decode cL_law 901 = .ok (.iadd, 1) := dk_96 (dk_at dksL_law_28 3 rfl rfl)
theorem dL_law_902 : decode cL_law 902 = .ok (.iaload, 1) := dk_46 (dk_at dksL_law_28 4 rfl rfl)
theorem dL_law_903 : decode cL_law 903 = .ok (.aload_n 0, 1) := dk_42 (dk_at dksL_law_28 5 rfl rfl)
theorem dL_law_904 : decode cL_law 904 = .ok (.iload 4, 2) := dk_21 4 (dk_at dksL_law_28 6 rfl rfl)
theorem dL_law_906 : decode cL_law 906 = .ok (.iconst 3, 1) := dk_6 (dk_at dksL_law_28 8 rfl rfl)
theorem dL_law_907 : decode cL_law 907 = .ok (.iadd, 1) := dk_96 (dk_at dksL_law_28 9 rfl rfl)
theorem dL_law_908 : decode cL_law 908 = .ok (.iaload, 1) := dk_46 (dk_at dksL_law_28 10 rfl rfl)
theorem dL_law_909 : decode cL_law 909 = .ok (.ifCond .eq 7, 3) := dk_153 0 7 (dk_at dksL_law_28 11 rfl rfl)
theorem dL_law_912 : decode cL_law 912 = .ok (.iconst 1, 1) := dk_4 (dk_at dksL_law_28 14 rfl rfl)
theorem dL_law_913 : decode cL_law 913 = .ok (.goto 4, 3) := dk_167 0 4 (dk_at dksL_law_28 15 rfl rfl)
theorem dL_law_916 : decode cL_law 916 = .ok (.iconst 0, 1) := dk_3 (dk_at dksL_law_28 18 rfl rfl)
theorem dL_law_917 : decode cL_law 917 = .ok (.aload_n 3, 1) := dk_45 (dk_at dksL_law_28 19 rfl rfl)
theorem dL_law_918 : decode cL_law 918 = .ok (.invokestatic 227, 3) := dk_184 0 227 (dk_at dksL_law_28 20 rfl rfl)
theorem dL_law_921 : decode cL_law 921 = .ok (.istore 5, 2) := dk_54 5 (dk_at dksL_law_29 0 rfl rfl)
theorem dL_law_923 : decode cL_law 923 = .ok (.aload_n 2, 1) := dk_44 (dk_at dksL_law_29 2 rfl rfl)
theorem dL_law_924 : decode cL_law 924 = .ok (.aload_n 0, 1) := dk_42 (dk_at dksL_law_29 3 rfl rfl)
theorem dL_law_925 : decode cL_law 925 = .ok (.iload 4, 2) := dk_21 4 (dk_at dksL_law_29 4 rfl rfl)
theorem dL_law_927 : decode cL_law 927 = .ok (.iconst 1, 1) := dk_4 (dk_at dksL_law_29 6 rfl rfl)
theorem dL_law_928 : decode cL_law 928 = .ok (.iadd, 1) := dk_96 (dk_at dksL_law_29 7 rfl rfl)
theorem dL_law_929 : decode cL_law 929 = .ok (.iaload, 1) := dk_46 (dk_at dksL_law_29 8 rfl rfl)
theorem dL_law_930 : decode cL_law 930 = .ok (.aload_n 0, 1) := dk_42 (dk_at dksL_law_29 9 rfl rfl)
theorem dL_law_931 : decode cL_law 931 = .ok (.iload 4, 2) := dk_21 4 (dk_at dksL_law_29 10 rfl rfl)
theorem dL_law_933 : decode cL_law 933 = .ok (.iconst 2, 1) := dk_5 (dk_at dksL_law_29 12 rfl rfl)
theorem dL_law_934 : decode cL_law 934 = .ok (.iadd, 1) := dk_96 (dk_at dksL_law_29 13 rfl rfl)
theorem dL_law_935 : decode cL_law 935 = .ok (.iaload, 1) := dk_46 (dk_at dksL_law_29 14 rfl rfl)
theorem dL_law_936 : decode cL_law 936 = .ok (.aload_n 0, 1) := dk_42 (dk_at dksL_law_29 15 rfl rfl)
theorem dL_law_937 : decode cL_law 937 = .ok (.iload 4, 2) := dk_21 4 (dk_at dksL_law_29 16 rfl rfl)
theorem dL_law_939 : decode cL_law 939 = .ok (.iconst 3, 1) := dk_6 (dk_at dksL_law_29 18 rfl rfl)
theorem dL_law_940 : decode cL_law 940 = .ok (.iadd, 1) := dk_96 (dk_at dksL_law_29 19 rfl rfl)
theorem dL_law_941 : decode cL_law 941 = .ok (.iaload, 1) := dk_46 (dk_at dksL_law_29 20 rfl rfl)
theorem dL_law_942 : decode cL_law 942 = .ok (.ifCond .eq 7, 3) := dk_153 0 7 (dk_at dksL_law_29 21 rfl rfl)
theorem dL_law_945 : decode cL_law 945 = .ok (.iconst 1, 1) := dk_4 (dk_at dksL_law_30 0 rfl rfl)
theorem dL_law_946 : decode cL_law 946 = .ok (.goto 4, 3) := dk_167 0 4 (dk_at dksL_law_30 1 rfl rfl)
theorem dL_law_949 : decode cL_law 949 = .ok (.iconst 0, 1) := dk_3 (dk_at dksL_law_30 4 rfl rfl)
theorem dL_law_950 : decode cL_law 950 = .ok (.invokevirtual 230, 3) := dk_182 0 230 (dk_at dksL_law_30 5 rfl rfl)
theorem dL_law_953 : decode cL_law 953 = .ok (.istore 6, 2) := dk_54 6 (dk_at dksL_law_30 8 rfl rfl)
theorem dL_law_955 : decode cL_law 955 = .ok (.aload_n 2, 1) := dk_44 (dk_at dksL_law_30 10 rfl rfl)
theorem dL_law_956 : decode cL_law 956 = .ok (.invokevirtual 185, 3) := dk_182 0 185 (dk_at dksL_law_30 11 rfl rfl)
theorem dL_law_959 : decode cL_law 959 = .ok (.iload 5, 2) := dk_21 5 (dk_at dksL_law_30 14 rfl rfl)
theorem dL_law_961 : decode cL_law 961 = .ok (.if_icmp .eq 5, 3) := dk_159 0 5 (dk_at dksL_law_30 16 rfl rfl)
theorem dL_law_964 : decode cL_law 964 = .ok (.iconst 0, 1) := dk_3 (dk_at dksL_law_30 19 rfl rfl)
theorem dL_law_965 : decode cL_law 965 = .ok (.ireturn, 1) := dk_172 (dk_at dksL_law_30 20 rfl rfl)
theorem dL_law_966 : decode cL_law 966 = .ok (.iload 5, 2) := dk_21 5 (dk_at dksL_law_30 21 rfl rfl)
theorem dL_law_968 : decode cL_law 968 = .ok (.ifCond .ne 15, 3) := dk_154 0 15 (dk_at dksL_law_31 0 rfl rfl)
theorem dL_law_971 : decode cL_law 971 = .ok (.aload_n 3, 1) := dk_45 (dk_at dksL_law_31 3 rfl rfl)
theorem dL_law_972 : decode cL_law 972 = .ok (.iconst 0, 1) := dk_3 (dk_at dksL_law_31 4 rfl rfl)
theorem dL_law_973 : decode cL_law 973 = .ok (.laload, 1) := dk_47 (dk_at dksL_law_31 5 rfl rfl)
theorem dL_law_974 : decode cL_law 974 = .ok (.iload 6, 2) := dk_21 6 (dk_at dksL_law_31 6 rfl rfl)
theorem dL_law_976 : decode cL_law 976 = .ok (.i2l, 1) := dk_133 (dk_at dksL_law_31 8 rfl rfl)
theorem dL_law_977 : decode cL_law 977 = .ok (.lcmp, 1) := dk_148 (dk_at dksL_law_31 9 rfl rfl)
theorem dL_law_978 : decode cL_law 978 = .ok (.ifCond .eq 5, 3) := dk_153 0 5 (dk_at dksL_law_31 10 rfl rfl)
theorem dL_law_981 : decode cL_law 981 = .ok (.iconst 0, 1) := dk_3 (dk_at dksL_law_31 13 rfl rfl)
theorem dL_law_982 : decode cL_law 982 = .ok (.ireturn, 1) := dk_172 (dk_at dksL_law_31 14 rfl rfl)
theorem dL_law_983 : decode cL_law 983 = .ok (.goto 2737, 3) := dk_167 10 177 (dk_at dksL_law_31 15 rfl rfl)
theorem dL_law_986 : decode cL_law 986 = .ok (.aload_n 1, 1) := dk_43 (dk_at dksL_law_31 18 rfl rfl)
theorem dL_law_987 : decode cL_law 987 = .ok (.invokevirtual 231, 3) := dk_182 0 231 (dk_at dksL_law_31 19 rfl rfl)
theorem dL_law_990 : decode cL_law 990 = .ok (.dstore 5, 2) := dk_57 5 (dk_at dksL_law_31 22 rfl rfl)
theorem dL_law_992 : decode cL_law 992 = .ok (.aload_n 2, 1) := dk_44 (dk_at dksL_law_32 0 rfl rfl)
theorem dL_law_993 : decode cL_law 993 = .ok (.invokevirtual 235, 3) := dk_182 0 235 (dk_at dksL_law_32 1 rfl rfl)
theorem dL_law_996 : decode cL_law 996 = .ok (.dstore 7, 2) := dk_57 7 (dk_at dksL_law_32 4 rfl rfl)
theorem dL_law_998 : decode cL_law 998 = .ok (.dload 5, 2) := dk_24 5 (dk_at dksL_law_32 6 rfl rfl)
theorem dL_law_1000 : decode cL_law 1000 = .ok (.dload 7, 2) := dk_24 7 (dk_at dksL_law_32 8 rfl rfl)
theorem dL_law_1002 : decode cL_law 1002 = .ok (.dcmp .l, 1) := dk_151 (dk_at dksL_law_32 10 rfl rfl)
theorem dL_law_1003 : decode cL_law 1003 = .ok (.ifCond .eq 21, 3) := dk_153 0 21 (dk_at dksL_law_32 11 rfl rfl)
theorem dL_law_1006 : decode cL_law 1006 = .ok (.dload 5, 2) := dk_24 5 (dk_at dksL_law_32 14 rfl rfl)
theorem dL_law_1008 : decode cL_law 1008 = .ok (.dload 5, 2) := dk_24 5 (dk_at dksL_law_32 16 rfl rfl)
theorem dL_law_1010 : decode cL_law 1010 = .ok (.dcmp .l, 1) := dk_151 (dk_at dksL_law_32 18 rfl rfl)
theorem dL_law_1011 : decode cL_law 1011 = .ok (.ifCond .eq 11, 3) := dk_153 0 11 (dk_at dksL_law_32 19 rfl rfl)
theorem dL_law_1014 : decode cL_law 1014 = .ok (.dload 7, 2) := dk_24 7 (dk_at dksL_law_32 22 rfl rfl)
theorem dL_law_1016 : decode cL_law 1016 = .ok (.dload 7, 2) := dk_24 7 (dk_at dksL_law_33 0 rfl rfl)
theorem dL_law_1018 : decode cL_law 1018 = .ok (.dcmp .l, 1) := dk_151 (dk_at dksL_law_33 2 rfl rfl)
theorem dL_law_1019 : decode cL_law 1019 = .ok (.ifCond .ne 5, 3) := dk_154 0 5 (dk_at dksL_law_33 3 rfl rfl)
theorem dL_law_1022 : decode cL_law 1022 = .ok (.iconst 0, 1) := dk_3 (dk_at dksL_law_33 6 rfl rfl)
theorem dL_law_1023 : decode cL_law 1023 = .ok (.ireturn, 1) := dk_172 (dk_at dksL_law_33 7 rfl rfl)
theorem dL_law_1024 : decode cL_law 1024 = .ok (.goto 2696, 3) := dk_167 10 136 (dk_at dksL_law_33 8 rfl rfl)
theorem dL_law_1027 : decode cL_law 1027 = .ok (.aload_n 1, 1) := dk_43 (dk_at dksL_law_33 11 rfl rfl)
theorem dL_law_1028 : decode cL_law 1028 = .ok (.invokevirtual 236, 3) := dk_182 0 236 (dk_at dksL_law_33 12 rfl rfl)
theorem dL_law_1031 : decode cL_law 1031 = .ok (.f2d, 1) := dk_141 (dk_at dksL_law_33 15 rfl rfl)
theorem dL_law_1032 : decode cL_law 1032 = .ok (.dstore 5, 2) := dk_57 5 (dk_at dksL_law_33 16 rfl rfl)
theorem dL_law_1034 : decode cL_law 1034 = .ok (.aload_n 2, 1) := dk_44 (dk_at dksL_law_33 18 rfl rfl)
theorem dL_law_1035 : decode cL_law 1035 = .ok (.invokevirtual 240, 3) := dk_182 0 240 (dk_at dksL_law_33 19 rfl rfl)
theorem dL_law_1038 : decode cL_law 1038 = .ok (.f2d, 1) := dk_141 (dk_at dksL_law_33 22 rfl rfl)
theorem dL_law_1039 : decode cL_law 1039 = .ok (.dstore 7, 2) := dk_57 7 (dk_at dksL_law_34 0 rfl rfl)
theorem dL_law_1041 : decode cL_law 1041 = .ok (.dload 5, 2) := dk_24 5 (dk_at dksL_law_34 2 rfl rfl)
theorem dL_law_1043 : decode cL_law 1043 = .ok (.dload 7, 2) := dk_24 7 (dk_at dksL_law_34 4 rfl rfl)
theorem dL_law_1045 : decode cL_law 1045 = .ok (.dcmp .l, 1) := dk_151 (dk_at dksL_law_34 6 rfl rfl)
theorem dL_law_1046 : decode cL_law 1046 = .ok (.ifCond .eq 21, 3) := dk_153 0 21 (dk_at dksL_law_34 7 rfl rfl)
theorem dL_law_1049 : decode cL_law 1049 = .ok (.dload 5, 2) := dk_24 5 (dk_at dksL_law_34 10 rfl rfl)
theorem dL_law_1051 : decode cL_law 1051 = .ok (.dload 5, 2) := dk_24 5 (dk_at dksL_law_34 12 rfl rfl)
theorem dL_law_1053 : decode cL_law 1053 = .ok (.dcmp .l, 1) := dk_151 (dk_at dksL_law_34 14 rfl rfl)
theorem dL_law_1054 : decode cL_law 1054 = .ok (.ifCond .eq 11, 3) := dk_153 0 11 (dk_at dksL_law_34 15 rfl rfl)
theorem dL_law_1057 : decode cL_law 1057 = .ok (.dload 7, 2) := dk_24 7 (dk_at dksL_law_34 18 rfl rfl)
theorem dL_law_1059 : decode cL_law 1059 = .ok (.dload 7, 2) := dk_24 7 (dk_at dksL_law_34 20 rfl rfl)
theorem dL_law_1061 : decode cL_law 1061 = .ok (.dcmp .l, 1) := dk_151 (dk_at dksL_law_34 22 rfl rfl)
theorem dL_law_1062 : decode cL_law 1062 = .ok (.ifCond .ne 5, 3) := dk_154 0 5 (dk_at dksL_law_35 0 rfl rfl)
theorem dL_law_1065 : decode cL_law 1065 = .ok (.iconst 0, 1) := dk_3 (dk_at dksL_law_35 3 rfl rfl)
theorem dL_law_1066 : decode cL_law 1066 = .ok (.ireturn, 1) := dk_172 (dk_at dksL_law_35 4 rfl rfl)
theorem dL_law_1067 : decode cL_law 1067 = .ok (.goto 2653, 3) := dk_167 10 93 (dk_at dksL_law_35 5 rfl rfl)
theorem dL_law_1070 : decode cL_law 1070 = .ok (.aload_n 1, 1) := dk_43 (dk_at dksL_law_35 8 rfl rfl)
theorem dL_law_1071 : decode cL_law 1071 = .ok (.aload_n 0, 1) := dk_42 (dk_at dksL_law_35 9 rfl rfl)
theorem dL_law_1072 : decode cL_law 1072 = .ok (.iload 4, 2) := dk_21 4 (dk_at dksL_law_35 10 rfl rfl)
theorem dL_law_1074 : decode cL_law 1074 = .ok (.iconst 1, 1) := dk_4 (dk_at dksL_law_35 12 rfl rfl)
theorem dL_law_1075 : decode cL_law 1075 = .ok (.iadd, 1) := dk_96 (dk_at dksL_law_35 13 rfl rfl)
theorem dL_law_1076 : decode cL_law 1076 = .ok (.iaload, 1) := dk_46 (dk_at dksL_law_35 14 rfl rfl)
theorem dL_law_1077 : decode cL_law 1077 = .ok (.aload_n 0, 1) := dk_42 (dk_at dksL_law_35 15 rfl rfl)
theorem dL_law_1078 : decode cL_law 1078 = .ok (.iload 4, 2) := dk_21 4 (dk_at dksL_law_35 16 rfl rfl)
theorem dL_law_1080 : decode cL_law 1080 = .ok (.iconst 2, 1) := dk_5 (dk_at dksL_law_35 18 rfl rfl)
theorem dL_law_1081 : decode cL_law 1081 = .ok (.iadd, 1) := dk_96 (dk_at dksL_law_35 19 rfl rfl)
theorem dL_law_1082 : decode cL_law 1082 = .ok (.iaload, 1) := dk_46 (dk_at dksL_law_35 20 rfl rfl)
theorem dL_law_1083 : decode cL_law 1083 = .ok (.aload_n 3, 1) := dk_45 (dk_at dksL_law_35 21 rfl rfl)
theorem dL_law_1084 : decode cL_law 1084 = .ok (.invokestatic 241, 3) := dk_184 0 241 (dk_at dksL_law_36 0 rfl rfl)
theorem dL_law_1087 : decode cL_law 1087 = .ok (.istore 5, 2) := dk_54 5 (dk_at dksL_law_36 3 rfl rfl)
theorem dL_law_1089 : decode cL_law 1089 = .ok (.aload_n 2, 1) := dk_44 (dk_at dksL_law_36 5 rfl rfl)
theorem dL_law_1090 : decode cL_law 1090 = .ok (.aload_n 0, 1) := dk_42 (dk_at dksL_law_36 6 rfl rfl)
theorem dL_law_1091 : decode cL_law 1091 = .ok (.iload 4, 2) := dk_21 4 (dk_at dksL_law_36 7 rfl rfl)
theorem dL_law_1093 : decode cL_law 1093 = .ok (.iconst 1, 1) := dk_4 (dk_at dksL_law_36 9 rfl rfl)
theorem dL_law_1094 : decode cL_law 1094 = .ok (.iadd, 1) := dk_96 (dk_at dksL_law_36 10 rfl rfl)
theorem dL_law_1095 : decode cL_law 1095 = .ok (.iaload, 1) := dk_46 (dk_at dksL_law_36 11 rfl rfl)
theorem dL_law_1096 : decode cL_law 1096 = .ok (.aload_n 0, 1) := dk_42 (dk_at dksL_law_36 12 rfl rfl)
theorem dL_law_1097 : decode cL_law 1097 = .ok (.iload 4, 2) := dk_21 4 (dk_at dksL_law_36 13 rfl rfl)
theorem dL_law_1099 : decode cL_law 1099 = .ok (.iconst 2, 1) := dk_5 (dk_at dksL_law_36 15 rfl rfl)
theorem dL_law_1100 : decode cL_law 1100 = .ok (.iadd, 1) := dk_96 (dk_at dksL_law_36 16 rfl rfl)
theorem dL_law_1101 : decode cL_law 1101 = .ok (.iaload, 1) := dk_46 (dk_at dksL_law_36 17 rfl rfl)
theorem dL_law_1102 : decode cL_law 1102 = .ok (.invokevirtual 243, 3) := dk_182 0 243 (dk_at dksL_law_36 18 rfl rfl)
theorem dL_law_1105 : decode cL_law 1105 = .ok (.istore 6, 2) := dk_54 6 (dk_at dksL_law_36 21 rfl rfl)
theorem dL_law_1107 : decode cL_law 1107 = .ok (.aload_n 2, 1) := dk_44 (dk_at dksL_law_36 23 rfl rfl)
theorem dL_law_1108 : decode cL_law 1108 = .ok (.invokevirtual 185, 3) := dk_182 0 185 (dk_at dksL_law_37 0 rfl rfl)
theorem dL_law_1111 : decode cL_law 1111 = .ok (.iload 5, 2) := dk_21 5 (dk_at dksL_law_37 3 rfl rfl)
theorem dL_law_1113 : decode cL_law 1113 = .ok (.if_icmp .eq 5, 3) := dk_159 0 5 (dk_at dksL_law_37 5 rfl rfl)
theorem dL_law_1116 : decode cL_law 1116 = .ok (.iconst 0, 1) := dk_3 (dk_at dksL_law_37 8 rfl rfl)
theorem dL_law_1117 : decode cL_law 1117 = .ok (.ireturn, 1) := dk_172 (dk_at dksL_law_37 9 rfl rfl)
theorem dL_law_1118 : decode cL_law 1118 = .ok (.iload 5, 2) := dk_21 5 (dk_at dksL_law_37 10 rfl rfl)
theorem dL_law_1120 : decode cL_law 1120 = .ok (.ifCond .ne 15, 3) := dk_154 0 15 (dk_at dksL_law_37 12 rfl rfl)
theorem dL_law_1123 : decode cL_law 1123 = .ok (.aload_n 3, 1) := dk_45 (dk_at dksL_law_37 15 rfl rfl)
theorem dL_law_1124 : decode cL_law 1124 = .ok (.iconst 0, 1) := dk_3 (dk_at dksL_law_37 16 rfl rfl)
theorem dL_law_1125 : decode cL_law 1125 = .ok (.laload, 1) := dk_47 (dk_at dksL_law_37 17 rfl rfl)
theorem dL_law_1126 : decode cL_law 1126 = .ok (.iload 6, 2) := dk_21 6 (dk_at dksL_law_37 18 rfl rfl)
theorem dL_law_1128 : decode cL_law 1128 = .ok (.i2l, 1) := dk_133 (dk_at dksL_law_37 20 rfl rfl)
theorem dL_law_1129 : decode cL_law 1129 = .ok (.lcmp, 1) := dk_148 (dk_at dksL_law_37 21 rfl rfl)
theorem dL_law_1130 : decode cL_law 1130 = .ok (.ifCond .eq 5, 3) := dk_153 0 5 (dk_at dksL_law_38 0 rfl rfl)
theorem dL_law_1133 : decode cL_law 1133 = .ok (.iconst 0, 1) := dk_3 (dk_at dksL_law_38 3 rfl rfl)
theorem dL_law_1134 : decode cL_law 1134 = .ok (.ireturn, 1) := dk_172 (dk_at dksL_law_38 4 rfl rfl)
theorem dL_law_1135 : decode cL_law 1135 = .ok (.goto 2585, 3) := dk_167 10 25 (dk_at dksL_law_38 5 rfl rfl)
theorem dL_law_1138 : decode cL_law 1138 = .ok (.aload_n 1, 1) := dk_43 (dk_at dksL_law_38 8 rfl rfl)
theorem dL_law_1139 : decode cL_law 1139 = .ok (.aload_n 0, 1) := dk_42 (dk_at dksL_law_38 9 rfl rfl)
theorem dL_law_1140 : decode cL_law 1140 = .ok (.iload 4, 2) := dk_21 4 (dk_at dksL_law_38 10 rfl rfl)
theorem dL_law_1142 : decode cL_law 1142 = .ok (.iconst 1, 1) := dk_4 (dk_at dksL_law_38 12 rfl rfl)
theorem dL_law_1143 : decode cL_law 1143 = .ok (.iadd, 1) := dk_96 (dk_at dksL_law_38 13 rfl rfl)
theorem dL_law_1144 : decode cL_law 1144 = .ok (.iaload, 1) := dk_46 (dk_at dksL_law_38 14 rfl rfl)
theorem dL_law_1145 : decode cL_law 1145 = .ok (.aload_n 3, 1) := dk_45 (dk_at dksL_law_38 15 rfl rfl)
theorem dL_law_1146 : decode cL_law 1146 = .ok (.invokestatic 244, 3) := dk_184 0 244 (dk_at dksL_law_38 16 rfl rfl)
theorem dL_law_1149 : decode cL_law 1149 = .ok (.istore 5, 2) := dk_54 5 (dk_at dksL_law_38 19 rfl rfl)
theorem dL_law_1151 : decode cL_law 1151 = .ok (.aload_n 2, 1) := dk_44 (dk_at dksL_law_38 21 rfl rfl)
theorem dL_law_1152 : decode cL_law 1152 = .ok (.aload_n 0, 1) := dk_42 (dk_at dksL_law_38 22 rfl rfl)
theorem dL_law_1153 : decode cL_law 1153 = .ok (.iload 4, 2) := dk_21 4 (dk_at dksL_law_39 0 rfl rfl)
theorem dL_law_1155 : decode cL_law 1155 = .ok (.iconst 1, 1) := dk_4 (dk_at dksL_law_39 2 rfl rfl)
theorem dL_law_1156 : decode cL_law 1156 = .ok (.iadd, 1) := dk_96 (dk_at dksL_law_39 3 rfl rfl)
theorem dL_law_1157 : decode cL_law 1157 = .ok (.iaload, 1) := dk_46 (dk_at dksL_law_39 4 rfl rfl)
theorem dL_law_1158 : decode cL_law 1158 = .ok (.invokevirtual 246, 3) := dk_182 0 246 (dk_at dksL_law_39 5 rfl rfl)
theorem dL_law_1161 : decode cL_law 1161 = .ok (.istore 6, 2) := dk_54 6 (dk_at dksL_law_39 8 rfl rfl)
theorem dL_law_1163 : decode cL_law 1163 = .ok (.aload_n 2, 1) := dk_44 (dk_at dksL_law_39 10 rfl rfl)
theorem dL_law_1164 : decode cL_law 1164 = .ok (.invokevirtual 185, 3) := dk_182 0 185 (dk_at dksL_law_39 11 rfl rfl)
theorem dL_law_1167 : decode cL_law 1167 = .ok (.iload 5, 2) := dk_21 5 (dk_at dksL_law_39 14 rfl rfl)
theorem dL_law_1169 : decode cL_law 1169 = .ok (.if_icmp .eq 5, 3) := dk_159 0 5 (dk_at dksL_law_39 16 rfl rfl)
theorem dL_law_1172 : decode cL_law 1172 = .ok (.iconst 0, 1) := dk_3 (dk_at dksL_law_39 19 rfl rfl)
theorem dL_law_1173 : decode cL_law 1173 = .ok (.ireturn, 1) := dk_172 (dk_at dksL_law_39 20 rfl rfl)
theorem dL_law_1174 : decode cL_law 1174 = .ok (.iload 5, 2) := dk_21 5 (dk_at dksL_law_39 21 rfl rfl)
theorem dL_law_1176 : decode cL_law 1176 = .ok (.ifCond .ne 15, 3) := dk_154 0 15 (dk_at dksL_law_40 0 rfl rfl)
theorem dL_law_1179 : decode cL_law 1179 = .ok (.aload_n 3, 1) := dk_45 (dk_at dksL_law_40 3 rfl rfl)
theorem dL_law_1180 : decode cL_law 1180 = .ok (.iconst 0, 1) := dk_3 (dk_at dksL_law_40 4 rfl rfl)
theorem dL_law_1181 : decode cL_law 1181 = .ok (.laload, 1) := dk_47 (dk_at dksL_law_40 5 rfl rfl)
theorem dL_law_1182 : decode cL_law 1182 = .ok (.iload 6, 2) := dk_21 6 (dk_at dksL_law_40 6 rfl rfl)
theorem dL_law_1184 : decode cL_law 1184 = .ok (.i2l, 1) := dk_133 (dk_at dksL_law_40 8 rfl rfl)
theorem dL_law_1185 : decode cL_law 1185 = .ok (.lcmp, 1) := dk_148 (dk_at dksL_law_40 9 rfl rfl)
theorem dL_law_1186 : decode cL_law 1186 = .ok (.ifCond .eq 5, 3) := dk_153 0 5 (dk_at dksL_law_40 10 rfl rfl)
theorem dL_law_1189 : decode cL_law 1189 = .ok (.iconst 0, 1) := dk_3 (dk_at dksL_law_40 13 rfl rfl)
theorem dL_law_1190 : decode cL_law 1190 = .ok (.ireturn, 1) := dk_172 (dk_at dksL_law_40 14 rfl rfl)
theorem dL_law_1191 : decode cL_law 1191 = .ok (.goto 2529, 3) := dk_167 9 225 (dk_at dksL_law_40 15 rfl rfl)
theorem dL_law_1194 : decode cL_law 1194 = .ok (.aload_n 1, 1) := dk_43 (dk_at dksL_law_40 18 rfl rfl)
theorem dL_law_1195 : decode cL_law 1195 = .ok (.aload_n 0, 1) := dk_42 (dk_at dksL_law_40 19 rfl rfl)
theorem dL_law_1196 : decode cL_law 1196 = .ok (.iload 4, 2) := dk_21 4 (dk_at dksL_law_40 20 rfl rfl)
theorem dL_law_1198 : decode cL_law 1198 = .ok (.iconst 1, 1) := dk_4 (dk_at dksL_law_40 22 rfl rfl)
theorem dL_law_1199 : decode cL_law 1199 = .ok (.iadd, 1) := dk_96 (dk_at dksL_law_40 23 rfl rfl)
theorem dL_law_1200 : decode cL_law 1200 = .ok (.iaload, 1) := dk_46 (dk_at dksL_law_41 0 rfl rfl)
theorem dL_law_1201 : decode cL_law 1201 = .ok (.aload_n 3, 1) := dk_45 (dk_at dksL_law_41 1 rfl rfl)
theorem dL_law_1202 : decode cL_law 1202 = .ok (.invokestatic 247, 3) := dk_184 0 247 (dk_at dksL_law_41 2 rfl rfl)
theorem dL_law_1205 : decode cL_law 1205 = .ok (.istore 5, 2) := dk_54 5 (dk_at dksL_law_41 5 rfl rfl)
theorem dL_law_1207 : decode cL_law 1207 = .ok (.aload_n 2, 1) := dk_44 (dk_at dksL_law_41 7 rfl rfl)
theorem dL_law_1208 : decode cL_law 1208 = .ok (.aload_n 0, 1) := dk_42 (dk_at dksL_law_41 8 rfl rfl)
theorem dL_law_1209 : decode cL_law 1209 = .ok (.iload 4, 2) := dk_21 4 (dk_at dksL_law_41 9 rfl rfl)
theorem dL_law_1211 : decode cL_law 1211 = .ok (.iconst 1, 1) := dk_4 (dk_at dksL_law_41 11 rfl rfl)
theorem dL_law_1212 : decode cL_law 1212 = .ok (.iadd, 1) := dk_96 (dk_at dksL_law_41 12 rfl rfl)
theorem dL_law_1213 : decode cL_law 1213 = .ok (.iaload, 1) := dk_46 (dk_at dksL_law_41 13 rfl rfl)
theorem dL_law_1214 : decode cL_law 1214 = .ok (.invokevirtual 249, 3) := dk_182 0 249 (dk_at dksL_law_41 14 rfl rfl)
theorem dL_law_1217 : decode cL_law 1217 = .ok (.istore 6, 2) := dk_54 6 (dk_at dksL_law_41 17 rfl rfl)
theorem dL_law_1219 : decode cL_law 1219 = .ok (.aload_n 2, 1) := dk_44 (dk_at dksL_law_41 19 rfl rfl)
theorem dL_law_1220 : decode cL_law 1220 = .ok (.invokevirtual 185, 3) := dk_182 0 185 (dk_at dksL_law_41 20 rfl rfl)
theorem dL_law_1223 : decode cL_law 1223 = .ok (.iload 5, 2) := dk_21 5 (dk_at dksL_law_42 0 rfl rfl)
theorem dL_law_1225 : decode cL_law 1225 = .ok (.if_icmp .eq 5, 3) := dk_159 0 5 (dk_at dksL_law_42 2 rfl rfl)
theorem dL_law_1228 : decode cL_law 1228 = .ok (.iconst 0, 1) := dk_3 (dk_at dksL_law_42 5 rfl rfl)
theorem dL_law_1229 : decode cL_law 1229 = .ok (.ireturn, 1) := dk_172 (dk_at dksL_law_42 6 rfl rfl)
theorem dL_law_1230 : decode cL_law 1230 = .ok (.iload 5, 2) := dk_21 5 (dk_at dksL_law_42 7 rfl rfl)
theorem dL_law_1232 : decode cL_law 1232 = .ok (.ifCond .ne 15, 3) := dk_154 0 15 (dk_at dksL_law_42 9 rfl rfl)
theorem dL_law_1235 : decode cL_law 1235 = .ok (.aload_n 3, 1) := dk_45 (dk_at dksL_law_42 12 rfl rfl)
theorem dL_law_1236 : decode cL_law 1236 = .ok (.iconst 0, 1) := dk_3 (dk_at dksL_law_42 13 rfl rfl)
theorem dL_law_1237 : decode cL_law 1237 = .ok (.laload, 1) := dk_47 (dk_at dksL_law_42 14 rfl rfl)
theorem dL_law_1238 : decode cL_law 1238 = .ok (.iload 6, 2) := dk_21 6 (dk_at dksL_law_42 15 rfl rfl)
theorem dL_law_1240 : decode cL_law 1240 = .ok (.i2l, 1) := dk_133 (dk_at dksL_law_42 17 rfl rfl)
theorem dL_law_1241 : decode cL_law 1241 = .ok (.lcmp, 1) := dk_148 (dk_at dksL_law_42 18 rfl rfl)
theorem dL_law_1242 : decode cL_law 1242 = .ok (.ifCond .eq 5, 3) := dk_153 0 5 (dk_at dksL_law_42 19 rfl rfl)
theorem dL_law_1245 : decode cL_law 1245 = .ok (.iconst 0, 1) := dk_3 (dk_at dksL_law_42 22 rfl rfl)
theorem dL_law_1246 : decode cL_law 1246 = .ok (.ireturn, 1) := dk_172 (dk_at dksL_law_42 23 rfl rfl)
theorem dL_law_1247 : decode cL_law 1247 = .ok (.goto 2473, 3) := dk_167 9 169 (dk_at dksL_law_43 0 rfl rfl)
theorem dL_law_1250 : decode cL_law 1250 = .ok (.aload_n 1, 1) := dk_43 (dk_at dksL_law_43 3 rfl rfl)
theorem dL_law_1251 : decode cL_law 1251 = .ok (.aload_n 0, 1) := dk_42 (dk_at dksL_law_43 4 rfl rfl)
theorem dL_law_1252 : decode cL_law 1252 = .ok (.iload 4, 2) := dk_21 4 (dk_at dksL_law_43 5 rfl rfl)
theorem dL_law_1254 : decode cL_law 1254 = .ok (.iconst 1, 1) := dk_4 (dk_at dksL_law_43 7 rfl rfl)
theorem dL_law_1255 : decode cL_law 1255 = .ok (.iadd, 1) := dk_96 (dk_at dksL_law_43 8 rfl rfl)
theorem dL_law_1256 : decode cL_law 1256 = .ok (.iaload, 1) := dk_46 (dk_at dksL_law_43 9 rfl rfl)
theorem dL_law_1257 : decode cL_law 1257 = .ok (.aload_n 0, 1) := dk_42 (dk_at dksL_law_43 10 rfl rfl)
theorem dL_law_1258 : decode cL_law 1258 = .ok (.iload 4, 2) := dk_21 4 (dk_at dksL_law_43 11 rfl rfl)
theorem dL_law_1260 : decode cL_law 1260 = .ok (.iconst 2, 1) := dk_5 (dk_at dksL_law_43 13 rfl rfl)
theorem dL_law_1261 : decode cL_law 1261 = .ok (.iadd, 1) := dk_96 (dk_at dksL_law_43 14 rfl rfl)
theorem dL_law_1262 : decode cL_law 1262 = .ok (.iaload, 1) := dk_46 (dk_at dksL_law_43 15 rfl rfl)
theorem dL_law_1263 : decode cL_law 1263 = .ok (.aload_n 3, 1) := dk_45 (dk_at dksL_law_43 16 rfl rfl)
theorem dL_law_1264 : decode cL_law 1264 = .ok (.invokestatic 250, 3) := dk_184 0 250 (dk_at dksL_law_43 17 rfl rfl)
theorem dL_law_1267 : decode cL_law 1267 = .ok (.istore 5, 2) := dk_54 5 (dk_at dksL_law_43 20 rfl rfl)
theorem dL_law_1269 : decode cL_law 1269 = .ok (.aload_n 2, 1) := dk_44 (dk_at dksL_law_43 22 rfl rfl)
theorem dL_law_1270 : decode cL_law 1270 = .ok (.aload_n 0, 1) := dk_42 (dk_at dksL_law_43 23 rfl rfl)
theorem dL_law_1271 : decode cL_law 1271 = .ok (.iload 4, 2) := dk_21 4 (dk_at dksL_law_44 0 rfl rfl)
theorem dL_law_1273 : decode cL_law 1273 = .ok (.iconst 1, 1) := dk_4 (dk_at dksL_law_44 2 rfl rfl)
theorem dL_law_1274 : decode cL_law 1274 = .ok (.iadd, 1) := dk_96 (dk_at dksL_law_44 3 rfl rfl)
theorem dL_law_1275 : decode cL_law 1275 = .ok (.iaload, 1) := dk_46 (dk_at dksL_law_44 4 rfl rfl)
theorem dL_law_1276 : decode cL_law 1276 = .ok (.aload_n 0, 1) := dk_42 (dk_at dksL_law_44 5 rfl rfl)
theorem dL_law_1277 : decode cL_law 1277 = .ok (.iload 4, 2) := dk_21 4 (dk_at dksL_law_44 6 rfl rfl)
theorem dL_law_1279 : decode cL_law 1279 = .ok (.iconst 2, 1) := dk_5 (dk_at dksL_law_44 8 rfl rfl)
theorem dL_law_1280 : decode cL_law 1280 = .ok (.iadd, 1) := dk_96 (dk_at dksL_law_44 9 rfl rfl)
theorem dL_law_1281 : decode cL_law 1281 = .ok (.iaload, 1) := dk_46 (dk_at dksL_law_44 10 rfl rfl)
theorem dL_law_1282 : decode cL_law 1282 = .ok (.invokevirtual 252, 3) := dk_182 0 252 (dk_at dksL_law_44 11 rfl rfl)
theorem dL_law_1285 : decode cL_law 1285 = .ok (.istore 6, 2) := dk_54 6 (dk_at dksL_law_44 14 rfl rfl)
theorem dL_law_1287 : decode cL_law 1287 = .ok (.aload_n 2, 1) := dk_44 (dk_at dksL_law_44 16 rfl rfl)
theorem dL_law_1288 : decode cL_law 1288 = .ok (.invokevirtual 185, 3) := dk_182 0 185 (dk_at dksL_law_44 17 rfl rfl)
theorem dL_law_1291 : decode cL_law 1291 = .ok (.iload 5, 2) := dk_21 5 (dk_at dksL_law_44 20 rfl rfl)
theorem dL_law_1293 : decode cL_law 1293 = .ok (.if_icmp .eq 5, 3) := dk_159 0 5 (dk_at dksL_law_45 0 rfl rfl)
theorem dL_law_1296 : decode cL_law 1296 = .ok (.iconst 0, 1) := dk_3 (dk_at dksL_law_45 3 rfl rfl)
theorem dL_law_1297 : decode cL_law 1297 = .ok (.ireturn, 1) := dk_172 (dk_at dksL_law_45 4 rfl rfl)
theorem dL_law_1298 : decode cL_law 1298 = .ok (.iload 5, 2) := dk_21 5 (dk_at dksL_law_45 5 rfl rfl)
theorem dL_law_1300 : decode cL_law 1300 = .ok (.ifCond .ne 15, 3) := dk_154 0 15 (dk_at dksL_law_45 7 rfl rfl)
theorem dL_law_1303 : decode cL_law 1303 = .ok (.aload_n 3, 1) := dk_45 (dk_at dksL_law_45 10 rfl rfl)
theorem dL_law_1304 : decode cL_law 1304 = .ok (.iconst 0, 1) := dk_3 (dk_at dksL_law_45 11 rfl rfl)
theorem dL_law_1305 : decode cL_law 1305 = .ok (.laload, 1) := dk_47 (dk_at dksL_law_45 12 rfl rfl)
theorem dL_law_1306 : decode cL_law 1306 = .ok (.iload 6, 2) := dk_21 6 (dk_at dksL_law_45 13 rfl rfl)
theorem dL_law_1308 : decode cL_law 1308 = .ok (.i2l, 1) := dk_133 (dk_at dksL_law_45 15 rfl rfl)
theorem dL_law_1309 : decode cL_law 1309 = .ok (.lcmp, 1) := dk_148 (dk_at dksL_law_45 16 rfl rfl)
theorem dL_law_1310 : decode cL_law 1310 = .ok (.ifCond .eq 5, 3) := dk_153 0 5 (dk_at dksL_law_45 17 rfl rfl)
theorem dL_law_1313 : decode cL_law 1313 = .ok (.iconst 0, 1) := dk_3 (dk_at dksL_law_45 20 rfl rfl)
theorem dL_law_1314 : decode cL_law 1314 = .ok (.ireturn, 1) := dk_172 (dk_at dksL_law_45 21 rfl rfl)
theorem dL_law_1315 : decode cL_law 1315 = .ok (.goto 2405, 3) := dk_167 9 101 (dk_at dksL_law_46 0 rfl rfl)
theorem dL_law_1318 : decode cL_law 1318 = .ok (.aload_n 1, 1) := dk_43 (dk_at dksL_law_46 3 rfl rfl)
theorem dL_law_1319 : decode cL_law 1319 = .ok (.aload_n 0, 1) := dk_42 (dk_at dksL_law_46 4 rfl rfl)
theorem dL_law_1320 : decode cL_law 1320 = .ok (.iload 4, 2) := dk_21 4 (dk_at dksL_law_46 5 rfl rfl)
theorem dL_law_1322 : decode cL_law 1322 = .ok (.iconst 1, 1) := dk_4 (dk_at dksL_law_46 7 rfl rfl)
theorem dL_law_1323 : decode cL_law 1323 = .ok (.iadd, 1) := dk_96 (dk_at dksL_law_46 8 rfl rfl)
theorem dL_law_1324 : decode cL_law 1324 = .ok (.iaload, 1) := dk_46 (dk_at dksL_law_46 9 rfl rfl)
theorem dL_law_1325 : decode cL_law 1325 = .ok (.aload_n 3, 1) := dk_45 (dk_at dksL_law_46 10 rfl rfl)
theorem dL_law_1326 : decode cL_law 1326 = .ok (.invokestatic 253, 3) := dk_184 0 253 (dk_at dksL_law_46 11 rfl rfl)
theorem dL_law_1329 : decode cL_law 1329 = .ok (.istore 5, 2) := dk_54 5 (dk_at dksL_law_46 14 rfl rfl)
theorem dL_law_1331 : decode cL_law 1331 = .ok (.aload_n 2, 1) := dk_44 (dk_at dksL_law_46 16 rfl rfl)
theorem dL_law_1332 : decode cL_law 1332 = .ok (.aload_n 0, 1) := dk_42 (dk_at dksL_law_46 17 rfl rfl)
theorem dL_law_1333 : decode cL_law 1333 = .ok (.iload 4, 2) := dk_21 4 (dk_at dksL_law_46 18 rfl rfl)
theorem dL_law_1335 : decode cL_law 1335 = .ok (.iconst 1, 1) := dk_4 (dk_at dksL_law_46 20 rfl rfl)
theorem dL_law_1336 : decode cL_law 1336 = .ok (.iadd, 1) := dk_96 (dk_at dksL_law_46 21 rfl rfl)
theorem dL_law_1337 : decode cL_law 1337 = .ok (.iaload, 1) := dk_46 (dk_at dksL_law_46 22 rfl rfl)
theorem dL_law_1338 : decode cL_law 1338 = .ok (.invokevirtual 255, 3) := dk_182 0 255 (dk_at dksL_law_47 0 rfl rfl)
theorem dL_law_1341 : decode cL_law 1341 = .ok (.istore 6, 2) := dk_54 6 (dk_at dksL_law_47 3 rfl rfl)
theorem dL_law_1343 : decode cL_law 1343 = .ok (.aload_n 2, 1) := dk_44 (dk_at dksL_law_47 5 rfl rfl)
theorem dL_law_1344 : decode cL_law 1344 = .ok (.invokevirtual 185, 3) := dk_182 0 185 (dk_at dksL_law_47 6 rfl rfl)
theorem dL_law_1347 : decode cL_law 1347 = .ok (.iload 5, 2) := dk_21 5 (dk_at dksL_law_47 9 rfl rfl)
theorem dL_law_1349 : decode cL_law 1349 = .ok (.if_icmp .eq 5, 3) := dk_159 0 5 (dk_at dksL_law_47 11 rfl rfl)
theorem dL_law_1352 : decode cL_law 1352 = .ok (.iconst 0, 1) := dk_3 (dk_at dksL_law_47 14 rfl rfl)
theorem dL_law_1353 : decode cL_law 1353 = .ok (.ireturn, 1) := dk_172 (dk_at dksL_law_47 15 rfl rfl)
theorem dL_law_1354 : decode cL_law 1354 = .ok (.iload 5, 2) := dk_21 5 (dk_at dksL_law_47 16 rfl rfl)
theorem dL_law_1356 : decode cL_law 1356 = .ok (.ifCond .ne 15, 3) := dk_154 0 15 (dk_at dksL_law_47 18 rfl rfl)
theorem dL_law_1359 : decode cL_law 1359 = .ok (.aload_n 3, 1) := dk_45 (dk_at dksL_law_47 21 rfl rfl)
theorem dL_law_1360 : decode cL_law 1360 = .ok (.iconst 0, 1) := dk_3 (dk_at dksL_law_47 22 rfl rfl)
theorem dL_law_1361 : decode cL_law 1361 = .ok (.laload, 1) := dk_47 (dk_at dksL_law_47 23 rfl rfl)
theorem dL_law_1362 : decode cL_law 1362 = .ok (.iload 6, 2) := dk_21 6 (dk_at dksL_law_48 0 rfl rfl)
theorem dL_law_1364 : decode cL_law 1364 = .ok (.i2l, 1) := dk_133 (dk_at dksL_law_48 2 rfl rfl)
theorem dL_law_1365 : decode cL_law 1365 = .ok (.lcmp, 1) := dk_148 (dk_at dksL_law_48 3 rfl rfl)
theorem dL_law_1366 : decode cL_law 1366 = .ok (.ifCond .eq 5, 3) := dk_153 0 5 (dk_at dksL_law_48 4 rfl rfl)
theorem dL_law_1369 : decode cL_law 1369 = .ok (.iconst 0, 1) := dk_3 (dk_at dksL_law_48 7 rfl rfl)
theorem dL_law_1370 : decode cL_law 1370 = .ok (.ireturn, 1) := dk_172 (dk_at dksL_law_48 8 rfl rfl)
theorem dL_law_1371 : decode cL_law 1371 = .ok (.goto 2349, 3) := dk_167 9 45 (dk_at dksL_law_48 9 rfl rfl)
theorem dL_law_1374 : decode cL_law 1374 = .ok (.aload_n 1, 1) := dk_43 (dk_at dksL_law_48 12 rfl rfl)
theorem dL_law_1375 : decode cL_law 1375 = .ok (.invokevirtual 256, 3) := dk_182 1 0 (dk_at dksL_law_48 13 rfl rfl)
theorem dL_law_1378 : decode cL_law 1378 = .ok (.aload_n 2, 1) := dk_44 (dk_at dksL_law_48 16 rfl rfl)
theorem dL_law_1379 : decode cL_law 1379 = .ok (.invokevirtual 259, 3) := dk_182 1 3 (dk_at dksL_law_48 17 rfl rfl)
theorem dL_law_1382 : decode cL_law 1382 = .ok (.if_icmp .eq 2338, 3) := dk_159 9 34 (dk_at dksL_law_48 20 rfl rfl)
theorem dL_law_1385 : decode cL_law 1385 = .ok (.iconst 0, 1) := dk_3 (dk_at dksL_law_48 23 rfl rfl)
theorem dL_law_1386 : decode cL_law 1386 = .ok (.ireturn, 1) := dk_172 (dk_at dksL_law_49 0 rfl rfl)
theorem dL_law_1387 : decode cL_law 1387 = .ok (.aload_n 1, 1) := dk_43 (dk_at dksL_law_49 1 rfl rfl)
theorem dL_law_1388 : decode cL_law 1388 = .ok (.aload_n 0, 1) := dk_42 (dk_at dksL_law_49 2 rfl rfl)
theorem dL_law_1389 : decode cL_law 1389 = .ok (.iload 4, 2) := dk_21 4 (dk_at dksL_law_49 3 rfl rfl)
theorem dL_law_1391 : decode cL_law 1391 = .ok (.iconst 1, 1) := dk_4 (dk_at dksL_law_49 5 rfl rfl)
theorem dL_law_1392 : decode cL_law 1392 = .ok (.iadd, 1) := dk_96 (dk_at dksL_law_49 6 rfl rfl)
theorem dL_law_1393 : decode cL_law 1393 = .ok (.iaload, 1) := dk_46 (dk_at dksL_law_49 7 rfl rfl)
theorem dL_law_1394 : decode cL_law 1394 = .ok (.aload_n 0, 1) := dk_42 (dk_at dksL_law_49 8 rfl rfl)
theorem dL_law_1395 : decode cL_law 1395 = .ok (.iload 4, 2) := dk_21 4 (dk_at dksL_law_49 9 rfl rfl)
theorem dL_law_1397 : decode cL_law 1397 = .ok (.iconst 2, 1) := dk_5 (dk_at dksL_law_49 11 rfl rfl)
theorem dL_law_1398 : decode cL_law 1398 = .ok (.iadd, 1) := dk_96 (dk_at dksL_law_49 12 rfl rfl)
theorem dL_law_1399 : decode cL_law 1399 = .ok (.iaload, 1) := dk_46 (dk_at dksL_law_49 13 rfl rfl)
theorem dL_law_1400 : decode cL_law 1400 = .ok (.aload_n 3, 1) := dk_45 (dk_at dksL_law_49 14 rfl rfl)
theorem dL_law_1401 : decode cL_law 1401 = .ok (.invokestatic 260, 3) := dk_184 1 4 (dk_at dksL_law_49 15 rfl rfl)
theorem dL_law_1404 : decode cL_law 1404 = .ok (.istore 5, 2) := dk_54 5 (dk_at dksL_law_49 18 rfl rfl)
theorem dL_law_1406 : decode cL_law 1406 = .ok (.aload_n 2, 1) := dk_44 (dk_at dksL_law_49 20 rfl rfl)
theorem dL_law_1407 : decode cL_law 1407 = .ok (.aload_n 0, 1) := dk_42 (dk_at dksL_law_49 21 rfl rfl)
theorem dL_law_1408 : decode cL_law 1408 = .ok (.iload 4, 2) := dk_21 4 (dk_at dksL_law_49 22 rfl rfl)
theorem dL_law_1410 : decode cL_law 1410 = .ok (.iconst 1, 1) := dk_4 (dk_at dksL_law_50 0 rfl rfl)
theorem dL_law_1411 : decode cL_law 1411 = .ok (.iadd, 1) := dk_96 (dk_at dksL_law_50 1 rfl rfl)
theorem dL_law_1412 : decode cL_law 1412 = .ok (.iaload, 1) := dk_46 (dk_at dksL_law_50 2 rfl rfl)
theorem dL_law_1413 : decode cL_law 1413 = .ok (.aload_n 0, 1) := dk_42 (dk_at dksL_law_50 3 rfl rfl)
theorem dL_law_1414 : decode cL_law 1414 = .ok (.iload 4, 2) := dk_21 4 (dk_at dksL_law_50 4 rfl rfl)
theorem dL_law_1416 : decode cL_law 1416 = .ok (.iconst 2, 1) := dk_5 (dk_at dksL_law_50 6 rfl rfl)
theorem dL_law_1417 : decode cL_law 1417 = .ok (.iadd, 1) := dk_96 (dk_at dksL_law_50 7 rfl rfl)
theorem dL_law_1418 : decode cL_law 1418 = .ok (.iaload, 1) := dk_46 (dk_at dksL_law_50 8 rfl rfl)
theorem dL_law_1419 : decode cL_law 1419 = .ok (.invokevirtual 262, 3) := dk_182 1 6 (dk_at dksL_law_50 9 rfl rfl)
theorem dL_law_1422 : decode cL_law 1422 = .ok (.istore 6, 2) := dk_54 6 (dk_at dksL_law_50 12 rfl rfl)
theorem dL_law_1424 : decode cL_law 1424 = .ok (.aload_n 2, 1) := dk_44 (dk_at dksL_law_50 14 rfl rfl)
theorem dL_law_1425 : decode cL_law 1425 = .ok (.invokevirtual 185, 3) := dk_182 0 185 (dk_at dksL_law_50 15 rfl rfl)
theorem dL_law_1428 : decode cL_law 1428 = .ok (.iload 5, 2) := dk_21 5 (dk_at dksL_law_50 18 rfl rfl)
theorem dL_law_1430 : decode cL_law 1430 = .ok (.if_icmp .eq 5, 3) := dk_159 0 5 (dk_at dksL_law_50 20 rfl rfl)
theorem dL_law_1433 : decode cL_law 1433 = .ok (.iconst 0, 1) := dk_3 (dk_at dksL_law_50 23 rfl rfl)
theorem dL_law_1434 : decode cL_law 1434 = .ok (.ireturn, 1) := dk_172 (dk_at dksL_law_51 0 rfl rfl)
theorem dL_law_1435 : decode cL_law 1435 = .ok (.iload 5, 2) := dk_21 5 (dk_at dksL_law_51 1 rfl rfl)
theorem dL_law_1437 : decode cL_law 1437 = .ok (.ifCond .ne 15, 3) := dk_154 0 15 (dk_at dksL_law_51 3 rfl rfl)
theorem dL_law_1440 : decode cL_law 1440 = .ok (.aload_n 3, 1) := dk_45 (dk_at dksL_law_51 6 rfl rfl)
theorem dL_law_1441 : decode cL_law 1441 = .ok (.iconst 0, 1) := dk_3 (dk_at dksL_law_51 7 rfl rfl)
theorem dL_law_1442 : decode cL_law 1442 = .ok (.laload, 1) := dk_47 (dk_at dksL_law_51 8 rfl rfl)
theorem dL_law_1443 : decode cL_law 1443 = .ok (.iload 6, 2) := dk_21 6 (dk_at dksL_law_51 9 rfl rfl)
theorem dL_law_1445 : decode cL_law 1445 = .ok (.i2l, 1) := dk_133 (dk_at dksL_law_51 11 rfl rfl)
theorem dL_law_1446 : decode cL_law 1446 = .ok (.lcmp, 1) := dk_148 (dk_at dksL_law_51 12 rfl rfl)
theorem dL_law_1447 : decode cL_law 1447 = .ok (.ifCond .eq 5, 3) := dk_153 0 5 (dk_at dksL_law_51 13 rfl rfl)
theorem dL_law_1450 : decode cL_law 1450 = .ok (.iconst 0, 1) := dk_3 (dk_at dksL_law_51 16 rfl rfl)
theorem dL_law_1451 : decode cL_law 1451 = .ok (.ireturn, 1) := dk_172 (dk_at dksL_law_51 17 rfl rfl)
theorem dL_law_1452 : decode cL_law 1452 = .ok (.goto 2268, 3) := dk_167 8 220 (dk_at dksL_law_51 18 rfl rfl)
theorem dL_law_1455 : decode cL_law 1455 = .ok (.aload_n 1, 1) := dk_43 (dk_at dksL_law_51 21 rfl rfl)
theorem dL_law_1456 : decode cL_law 1456 = .ok (.aload_n 0, 1) := dk_42 (dk_at dksL_law_51 22 rfl rfl)
theorem dL_law_1457 : decode cL_law 1457 = .ok (.iload 4, 2) := dk_21 4 (dk_at dksL_law_52 0 rfl rfl)
theorem dL_law_1459 : decode cL_law 1459 = .ok (.iconst 1, 1) := dk_4 (dk_at dksL_law_52 2 rfl rfl)
theorem dL_law_1460 : decode cL_law 1460 = .ok (.iadd, 1) := dk_96 (dk_at dksL_law_52 3 rfl rfl)
theorem dL_law_1461 : decode cL_law 1461 = .ok (.iaload, 1) := dk_46 (dk_at dksL_law_52 4 rfl rfl)
theorem dL_law_1462 : decode cL_law 1462 = .ok (.aload_n 3, 1) := dk_45 (dk_at dksL_law_52 5 rfl rfl)
theorem dL_law_1463 : decode cL_law 1463 = .ok (.invokestatic 263, 3) := dk_184 1 7 (dk_at dksL_law_52 6 rfl rfl)
theorem dL_law_1466 : decode cL_law 1466 = .ok (.istore 5, 2) := dk_54 5 (dk_at dksL_law_52 9 rfl rfl)
theorem dL_law_1468 : decode cL_law 1468 = .ok (.aload_n 2, 1) := dk_44 (dk_at dksL_law_52 11 rfl rfl)
theorem dL_law_1469 : decode cL_law 1469 = .ok (.aload_n 0, 1) := dk_42 (dk_at dksL_law_52 12 rfl rfl)
theorem dL_law_1470 : decode cL_law 1470 = .ok (.iload 4, 2) := dk_21 4 (dk_at dksL_law_52 13 rfl rfl)
theorem dL_law_1472 : decode cL_law 1472 = .ok (.iconst 1, 1) := dk_4 (dk_at dksL_law_52 15 rfl rfl)
theorem dL_law_1473 : decode cL_law 1473 = .ok (.iadd, 1) := dk_96 (dk_at dksL_law_52 16 rfl rfl)
theorem dL_law_1474 : decode cL_law 1474 = .ok (.iaload, 1) := dk_46 (dk_at dksL_law_52 17 rfl rfl)
theorem dL_law_1475 : decode cL_law 1475 = .ok (.invokevirtual 265, 3) := dk_182 1 9 (dk_at dksL_law_52 18 rfl rfl)
theorem dL_law_1478 : decode cL_law 1478 = .ok (.istore 6, 2) := dk_54 6 (dk_at dksL_law_52 21 rfl rfl)
theorem dL_law_1480 : decode cL_law 1480 = .ok (.aload_n 2, 1) := dk_44 (dk_at dksL_law_52 23 rfl rfl)
theorem dL_law_1481 : decode cL_law 1481 = .ok (.invokevirtual 185, 3) := dk_182 0 185 (dk_at dksL_law_53 0 rfl rfl)
theorem dL_law_1484 : decode cL_law 1484 = .ok (.iload 5, 2) := dk_21 5 (dk_at dksL_law_53 3 rfl rfl)
theorem dL_law_1486 : decode cL_law 1486 = .ok (.if_icmp .eq 5, 3) := dk_159 0 5 (dk_at dksL_law_53 5 rfl rfl)
theorem dL_law_1489 : decode cL_law 1489 = .ok (.iconst 0, 1) := dk_3 (dk_at dksL_law_53 8 rfl rfl)
theorem dL_law_1490 : decode cL_law 1490 = .ok (.ireturn, 1) := dk_172 (dk_at dksL_law_53 9 rfl rfl)
theorem dL_law_1491 : decode cL_law 1491 = .ok (.iload 5, 2) := dk_21 5 (dk_at dksL_law_53 10 rfl rfl)
theorem dL_law_1493 : decode cL_law 1493 = .ok (.ifCond .ne 15, 3) := dk_154 0 15 (dk_at dksL_law_53 12 rfl rfl)
theorem dL_law_1496 : decode cL_law 1496 = .ok (.aload_n 3, 1) := dk_45 (dk_at dksL_law_53 15 rfl rfl)
theorem dL_law_1497 : decode cL_law 1497 = .ok (.iconst 0, 1) := dk_3 (dk_at dksL_law_53 16 rfl rfl)
theorem dL_law_1498 : decode cL_law 1498 = .ok (.laload, 1) := dk_47 (dk_at dksL_law_53 17 rfl rfl)
theorem dL_law_1499 : decode cL_law 1499 = .ok (.iload 6, 2) := dk_21 6 (dk_at dksL_law_53 18 rfl rfl)
theorem dL_law_1501 : decode cL_law 1501 = .ok (.i2l, 1) := dk_133 (dk_at dksL_law_53 20 rfl rfl)
theorem dL_law_1502 : decode cL_law 1502 = .ok (.lcmp, 1) := dk_148 (dk_at dksL_law_53 21 rfl rfl)
theorem dL_law_1503 : decode cL_law 1503 = .ok (.ifCond .eq 5, 3) := dk_153 0 5 (dk_at dksL_law_54 0 rfl rfl)
theorem dL_law_1506 : decode cL_law 1506 = .ok (.iconst 0, 1) := dk_3 (dk_at dksL_law_54 3 rfl rfl)
theorem dL_law_1507 : decode cL_law 1507 = .ok (.ireturn, 1) := dk_172 (dk_at dksL_law_54 4 rfl rfl)
theorem dL_law_1508 : decode cL_law 1508 = .ok (.goto 2212, 3) := dk_167 8 164 (dk_at dksL_law_54 5 rfl rfl)
theorem dL_law_1511 : decode cL_law 1511 = .ok (.aload_n 1, 1) := dk_43 (dk_at dksL_law_54 8 rfl rfl)
theorem dL_law_1512 : decode cL_law 1512 = .ok (.aload_n 0, 1) := dk_42 (dk_at dksL_law_54 9 rfl rfl)
theorem dL_law_1513 : decode cL_law 1513 = .ok (.iload 4, 2) := dk_21 4 (dk_at dksL_law_54 10 rfl rfl)
theorem dL_law_1515 : decode cL_law 1515 = .ok (.iconst 1, 1) := dk_4 (dk_at dksL_law_54 12 rfl rfl)
theorem dL_law_1516 : decode cL_law 1516 = .ok (.iadd, 1) := dk_96 (dk_at dksL_law_54 13 rfl rfl)
theorem dL_law_1517 : decode cL_law 1517 = .ok (.iaload, 1) := dk_46 (dk_at dksL_law_54 14 rfl rfl)
theorem dL_law_1518 : decode cL_law 1518 = .ok (.aload_n 0, 1) := dk_42 (dk_at dksL_law_54 15 rfl rfl)
theorem dL_law_1519 : decode cL_law 1519 = .ok (.iload 4, 2) := dk_21 4 (dk_at dksL_law_54 16 rfl rfl)
theorem dL_law_1521 : decode cL_law 1521 = .ok (.iconst 2, 1) := dk_5 (dk_at dksL_law_54 18 rfl rfl)
theorem dL_law_1522 : decode cL_law 1522 = .ok (.iadd, 1) := dk_96 (dk_at dksL_law_54 19 rfl rfl)
theorem dL_law_1523 : decode cL_law 1523 = .ok (.iaload, 1) := dk_46 (dk_at dksL_law_54 20 rfl rfl)
theorem dL_law_1524 : decode cL_law 1524 = .ok (.ifCond .eq 7, 3) := dk_153 0 7 (dk_at dksL_law_54 21 rfl rfl)
theorem dL_law_1527 : decode cL_law 1527 = .ok (.iconst 1, 1) := dk_4 (dk_at dksL_law_55 0 rfl rfl)
theorem dL_law_1528 : decode cL_law 1528 = .ok (.goto 4, 3) := dk_167 0 4 (dk_at dksL_law_55 1 rfl rfl)
theorem dL_law_1531 : decode cL_law 1531 = .ok (.iconst 0, 1) := dk_3 (dk_at dksL_law_55 4 rfl rfl)
theorem dL_law_1532 : decode cL_law 1532 = .ok (.aload_n 3, 1) := dk_45 (dk_at dksL_law_55 5 rfl rfl)
theorem dL_law_1533 : decode cL_law 1533 = .ok (.invokestatic 266, 3) := dk_184 1 10 (dk_at dksL_law_55 6 rfl rfl)
theorem dL_law_1536 : decode cL_law 1536 = .ok (.istore 5, 2) := dk_54 5 (dk_at dksL_law_55 9 rfl rfl)
theorem dL_law_1538 : decode cL_law 1538 = .ok (.aload_n 2, 1) := dk_44 (dk_at dksL_law_55 11 rfl rfl)
theorem dL_law_1539 : decode cL_law 1539 = .ok (.aload_n 0, 1) := dk_42 (dk_at dksL_law_55 12 rfl rfl)
theorem dL_law_1540 : decode cL_law 1540 = .ok (.iload 4, 2) := dk_21 4 (dk_at dksL_law_55 13 rfl rfl)
theorem dL_law_1542 : decode cL_law 1542 = .ok (.iconst 1, 1) := dk_4 (dk_at dksL_law_55 15 rfl rfl)
theorem dL_law_1543 : decode cL_law 1543 = .ok (.iadd, 1) := dk_96 (dk_at dksL_law_55 16 rfl rfl)
theorem dL_law_1544 : decode cL_law 1544 = .ok (.iaload, 1) := dk_46 (dk_at dksL_law_55 17 rfl rfl)
theorem dL_law_1545 : decode cL_law 1545 = .ok (.aload_n 0, 1) := dk_42 (dk_at dksL_law_55 18 rfl rfl)
theorem dL_law_1546 : decode cL_law 1546 = .ok (.iload 4, 2) := dk_21 4 (dk_at dksL_law_55 19 rfl rfl)
theorem dL_law_1548 : decode cL_law 1548 = .ok (.iconst 2, 1) := dk_5 (dk_at dksL_law_55 21 rfl rfl)
theorem dL_law_1549 : decode cL_law 1549 = .ok (.iadd, 1) := dk_96 (dk_at dksL_law_55 22 rfl rfl)
theorem dL_law_1550 : decode cL_law 1550 = .ok (.iaload, 1) := dk_46 (dk_at dksL_law_55 23 rfl rfl)
theorem dL_law_1551 : decode cL_law 1551 = .ok (.ifCond .eq 7, 3) := dk_153 0 7 (dk_at dksL_law_56 0 rfl rfl)
theorem dL_law_1554 : decode cL_law 1554 = .ok (.iconst 1, 1) := dk_4 (dk_at dksL_law_56 3 rfl rfl)
theorem dL_law_1555 : decode cL_law 1555 = .ok (.goto 4, 3) := dk_167 0 4 (dk_at dksL_law_56 4 rfl rfl)
theorem dL_law_1558 : decode cL_law 1558 = .ok (.iconst 0, 1) := dk_3 (dk_at dksL_law_56 7 rfl rfl)
theorem dL_law_1559 : decode cL_law 1559 = .ok (.invokevirtual 269, 3) := dk_182 1 13 (dk_at dksL_law_56 8 rfl rfl)
theorem dL_law_1562 : decode cL_law 1562 = .ok (.istore 6, 2) := dk_54 6 (dk_at dksL_law_56 11 rfl rfl)
theorem dL_law_1564 : decode cL_law 1564 = .ok (.aload_n 2, 1) := dk_44 (dk_at dksL_law_56 13 rfl rfl)
theorem dL_law_1565 : decode cL_law 1565 = .ok (.invokevirtual 185, 3) := dk_182 0 185 (dk_at dksL_law_56 14 rfl rfl)
theorem dL_law_1568 : decode cL_law 1568 = .ok (.iload 5, 2) := dk_21 5 (dk_at dksL_law_56 17 rfl rfl)
theorem dL_law_1570 : decode cL_law 1570 = .ok (.if_icmp .eq 5, 3) := dk_159 0 5 (dk_at dksL_law_56 19 rfl rfl)
theorem dL_law_1573 : decode cL_law 1573 = .ok (.iconst 0, 1) := dk_3 (dk_at dksL_law_56 22 rfl rfl)
theorem dL_law_1574 : decode cL_law 1574 = .ok (.ireturn, 1) := dk_172 (dk_at dksL_law_56 23 rfl rfl)
theorem dL_law_1575 : decode cL_law 1575 = .ok (.iload 5, 2) := dk_21 5 (dk_at dksL_law_57 0 rfl rfl)
theorem dL_law_1577 : decode cL_law 1577 = .ok (.ifCond .ne 15, 3) := dk_154 0 15 (dk_at dksL_law_57 2 rfl rfl)
theorem dL_law_1580 : decode cL_law 1580 = .ok (.aload_n 3, 1) := dk_45 (dk_at dksL_law_57 5 rfl rfl)
theorem dL_law_1581 : decode cL_law 1581 = .ok (.iconst 0, 1) := dk_3 (dk_at dksL_law_57 6 rfl rfl)
theorem dL_law_1582 : decode cL_law 1582 = .ok (.laload, 1) := dk_47 (dk_at dksL_law_57 7 rfl rfl)
theorem dL_law_1583 : decode cL_law 1583 = .ok (.iload 6, 2) := dk_21 6 (dk_at dksL_law_57 8 rfl rfl)
theorem dL_law_1585 : decode cL_law 1585 = .ok (.i2l, 1) := dk_133 (dk_at dksL_law_57 10 rfl rfl)
theorem dL_law_1586 : decode cL_law 1586 = .ok (.lcmp, 1) := dk_148 (dk_at dksL_law_57 11 rfl rfl)
theorem dL_law_1587 : decode cL_law 1587 = .ok (.ifCond .eq 5, 3) := dk_153 0 5 (dk_at dksL_law_57 12 rfl rfl)
theorem dL_law_1590 : decode cL_law 1590 = .ok (.iconst 0, 1) := dk_3 (dk_at dksL_law_57 15 rfl rfl)
theorem dL_law_1591 : decode cL_law 1591 = .ok (.ireturn, 1) := dk_172 (dk_at dksL_law_57 16 rfl rfl)
theorem dL_law_1592 : decode cL_law 1592 = .ok (.goto 2128, 3) := dk_167 8 80 (dk_at dksL_law_57 17 rfl rfl)
theorem dL_law_1595 : decode cL_law 1595 = .ok (.aload_n 1, 1) := dk_43 (dk_at dksL_law_57 20 rfl rfl)
theorem dL_law_1596 : decode cL_law 1596 = .ok (.aload_n 0, 1) := dk_42 (dk_at dksL_law_57 21 rfl rfl)
theorem dL_law_1597 : decode cL_law 1597 = .ok (.iload 4, 2) := dk_21 4 (dk_at dksL_law_57 22 rfl rfl)
theorem dL_law_1599 : decode cL_law 1599 = .ok (.iconst 1, 1) := dk_4 (dk_at dksL_law_58 0 rfl rfl)
theorem dL_law_1600 : decode cL_law 1600 = .ok (.iadd, 1) := dk_96 (dk_at dksL_law_58 1 rfl rfl)
theorem dL_law_1601 : decode cL_law 1601 = .ok (.iaload, 1) := dk_46 (dk_at dksL_law_58 2 rfl rfl)
theorem dL_law_1602 : decode cL_law 1602 = .ok (.aload_n 3, 1) := dk_45 (dk_at dksL_law_58 3 rfl rfl)
theorem dL_law_1603 : decode cL_law 1603 = .ok (.invokestatic 270, 3) := dk_184 1 14 (dk_at dksL_law_58 4 rfl rfl)
theorem dL_law_1606 : decode cL_law 1606 = .ok (.istore 5, 2) := dk_54 5 (dk_at dksL_law_58 7 rfl rfl)
theorem dL_law_1608 : decode cL_law 1608 = .ok (.aload_n 2, 1) := dk_44 (dk_at dksL_law_58 9 rfl rfl)
theorem dL_law_1609 : decode cL_law 1609 = .ok (.aload_n 0, 1) := dk_42 (dk_at dksL_law_58 10 rfl rfl)
theorem dL_law_1610 : decode cL_law 1610 = .ok (.iload 4, 2) := dk_21 4 (dk_at dksL_law_58 11 rfl rfl)
theorem dL_law_1612 : decode cL_law 1612 = .ok (.iconst 1, 1) := dk_4 (dk_at dksL_law_58 13 rfl rfl)
theorem dL_law_1613 : decode cL_law 1613 = .ok (.iadd, 1) := dk_96 (dk_at dksL_law_58 14 rfl rfl)
theorem dL_law_1614 : decode cL_law 1614 = .ok (.iaload, 1) := dk_46 (dk_at dksL_law_58 15 rfl rfl)
theorem dL_law_1615 : decode cL_law 1615 = .ok (.invokevirtual 272, 3) := dk_182 1 16 (dk_at dksL_law_58 16 rfl rfl)
theorem dL_law_1618 : decode cL_law 1618 = .ok (.istore 6, 2) := dk_54 6 (dk_at dksL_law_58 19 rfl rfl)
theorem dL_law_1620 : decode cL_law 1620 = .ok (.aload_n 2, 1) := dk_44 (dk_at dksL_law_58 21 rfl rfl)
theorem dL_law_1621 : decode cL_law 1621 = .ok (.invokevirtual 185, 3) := dk_182 0 185 (dk_at dksL_law_59 0 rfl rfl)
theorem dL_law_1624 : decode cL_law 1624 = .ok (.iload 5, 2) := dk_21 5 (dk_at dksL_law_59 3 rfl rfl)
theorem dL_law_1626 : decode cL_law 1626 = .ok (.if_icmp .eq 5, 3) := dk_159 0 5 (dk_at dksL_law_59 5 rfl rfl)
theorem dL_law_1629 : decode cL_law 1629 = .ok (.iconst 0, 1) := dk_3 (dk_at dksL_law_59 8 rfl rfl)
theorem dL_law_1630 : decode cL_law 1630 = .ok (.ireturn, 1) := dk_172 (dk_at dksL_law_59 9 rfl rfl)
theorem dL_law_1631 : decode cL_law 1631 = .ok (.iload 5, 2) := dk_21 5 (dk_at dksL_law_59 10 rfl rfl)
theorem dL_law_1633 : decode cL_law 1633 = .ok (.ifCond .ne 15, 3) := dk_154 0 15 (dk_at dksL_law_59 12 rfl rfl)
theorem dL_law_1636 : decode cL_law 1636 = .ok (.aload_n 3, 1) := dk_45 (dk_at dksL_law_59 15 rfl rfl)
theorem dL_law_1637 : decode cL_law 1637 = .ok (.iconst 0, 1) := dk_3 (dk_at dksL_law_59 16 rfl rfl)
theorem dL_law_1638 : decode cL_law 1638 = .ok (.laload, 1) := dk_47 (dk_at dksL_law_59 17 rfl rfl)
theorem dL_law_1639 : decode cL_law 1639 = .ok (.iload 6, 2) := dk_21 6 (dk_at dksL_law_59 18 rfl rfl)
theorem dL_law_1641 : decode cL_law 1641 = .ok (.i2l, 1) := dk_133 (dk_at dksL_law_59 20 rfl rfl)
theorem dL_law_1642 : decode cL_law 1642 = .ok (.lcmp, 1) := dk_148 (dk_at dksL_law_59 21 rfl rfl)
theorem dL_law_1643 : decode cL_law 1643 = .ok (.ifCond .eq 5, 3) := dk_153 0 5 (dk_at dksL_law_60 0 rfl rfl)
theorem dL_law_1646 : decode cL_law 1646 = .ok (.iconst 0, 1) := dk_3 (dk_at dksL_law_60 3 rfl rfl)
theorem dL_law_1647 : decode cL_law 1647 = .ok (.ireturn, 1) := dk_172 (dk_at dksL_law_60 4 rfl rfl)
theorem dL_law_1648 : decode cL_law 1648 = .ok (.goto 2072, 3) := dk_167 8 24 (dk_at dksL_law_60 5 rfl rfl)
theorem dL_law_1651 : decode cL_law 1651 = .ok (.aload_n 1, 1) := dk_43 (dk_at dksL_law_60 8 rfl rfl)
theorem dL_law_1652 : decode cL_law 1652 = .ok (.aload_n 0, 1) := dk_42 (dk_at dksL_law_60 9 rfl rfl)
theorem dL_law_1653 : decode cL_law 1653 = .ok (.iload 4, 2) := dk_21 4 (dk_at dksL_law_60 10 rfl rfl)
theorem dL_law_1655 : decode cL_law 1655 = .ok (.iconst 1, 1) := dk_4 (dk_at dksL_law_60 12 rfl rfl)
theorem dL_law_1656 : decode cL_law 1656 = .ok (.iadd, 1) := dk_96 (dk_at dksL_law_60 13 rfl rfl)
theorem dL_law_1657 : decode cL_law 1657 = .ok (.iaload, 1) := dk_46 (dk_at dksL_law_60 14 rfl rfl)
theorem dL_law_1658 : decode cL_law 1658 = .ok (.aload_n 3, 1) := dk_45 (dk_at dksL_law_60 15 rfl rfl)
theorem dL_law_1659 : decode cL_law 1659 = .ok (.invokestatic 273, 3) := dk_184 1 17 (dk_at dksL_law_60 16 rfl rfl)
theorem dL_law_1662 : decode cL_law 1662 = .ok (.istore 5, 2) := dk_54 5 (dk_at dksL_law_60 19 rfl rfl)
theorem dL_law_1664 : decode cL_law 1664 = .ok (.aload_n 2, 1) := dk_44 (dk_at dksL_law_60 21 rfl rfl)
theorem dL_law_1665 : decode cL_law 1665 = .ok (.aload_n 0, 1) := dk_42 (dk_at dksL_law_60 22 rfl rfl)
theorem dL_law_1666 : decode cL_law 1666 = .ok (.iload 4, 2) := dk_21 4 (dk_at dksL_law_61 0 rfl rfl)
theorem dL_law_1668 : decode cL_law 1668 = .ok (.iconst 1, 1) := dk_4 (dk_at dksL_law_61 2 rfl rfl)
theorem dL_law_1669 : decode cL_law 1669 = .ok (.iadd, 1) := dk_96 (dk_at dksL_law_61 3 rfl rfl)
theorem dL_law_1670 : decode cL_law 1670 = .ok (.iaload, 1) := dk_46 (dk_at dksL_law_61 4 rfl rfl)
theorem dL_law_1671 : decode cL_law 1671 = .ok (.invokevirtual 275, 3) := dk_182 1 19 (dk_at dksL_law_61 5 rfl rfl)
theorem dL_law_1674 : decode cL_law 1674 = .ok (.istore 6, 2) := dk_54 6 (dk_at dksL_law_61 8 rfl rfl)
theorem dL_law_1676 : decode cL_law 1676 = .ok (.aload_n 2, 1) := dk_44 (dk_at dksL_law_61 10 rfl rfl)
theorem dL_law_1677 : decode cL_law 1677 = .ok (.invokevirtual 185, 3) := dk_182 0 185 (dk_at dksL_law_61 11 rfl rfl)
theorem dL_law_1680 : decode cL_law 1680 = .ok (.iload 5, 2) := dk_21 5 (dk_at dksL_law_61 14 rfl rfl)
theorem dL_law_1682 : decode cL_law 1682 = .ok (.if_icmp .eq 5, 3) := dk_159 0 5 (dk_at dksL_law_61 16 rfl rfl)
theorem dL_law_1685 : decode cL_law 1685 = .ok (.iconst 0, 1) := dk_3 (dk_at dksL_law_61 19 rfl rfl)
theorem dL_law_1686 : decode cL_law 1686 = .ok (.ireturn, 1) := dk_172 (dk_at dksL_law_61 20 rfl rfl)
theorem dL_law_1687 : decode cL_law 1687 = .ok (.iload 5, 2) := dk_21 5 (dk_at dksL_law_61 21 rfl rfl)
theorem dL_law_1689 : decode cL_law 1689 = .ok (.ifCond .ne 15, 3) := dk_154 0 15 (dk_at dksL_law_62 0 rfl rfl)
theorem dL_law_1692 : decode cL_law 1692 = .ok (.aload_n 3, 1) := dk_45 (dk_at dksL_law_62 3 rfl rfl)
theorem dL_law_1693 : decode cL_law 1693 = .ok (.iconst 0, 1) := dk_3 (dk_at dksL_law_62 4 rfl rfl)
theorem dL_law_1694 : decode cL_law 1694 = .ok (.laload, 1) := dk_47 (dk_at dksL_law_62 5 rfl rfl)
theorem dL_law_1695 : decode cL_law 1695 = .ok (.iload 6, 2) := dk_21 6 (dk_at dksL_law_62 6 rfl rfl)
theorem dL_law_1697 : decode cL_law 1697 = .ok (.i2l, 1) := dk_133 (dk_at dksL_law_62 8 rfl rfl)
theorem dL_law_1698 : decode cL_law 1698 = .ok (.lcmp, 1) := dk_148 (dk_at dksL_law_62 9 rfl rfl)
theorem dL_law_1699 : decode cL_law 1699 = .ok (.ifCond .eq 5, 3) := dk_153 0 5 (dk_at dksL_law_62 10 rfl rfl)
theorem dL_law_1702 : decode cL_law 1702 = .ok (.iconst 0, 1) := dk_3 (dk_at dksL_law_62 13 rfl rfl)
theorem dL_law_1703 : decode cL_law 1703 = .ok (.ireturn, 1) := dk_172 (dk_at dksL_law_62 14 rfl rfl)
theorem dL_law_1704 : decode cL_law 1704 = .ok (.goto 2016, 3) := dk_167 7 224 (dk_at dksL_law_62 15 rfl rfl)
theorem dL_law_1707 : decode cL_law 1707 = .ok (.aload_n 1, 1) := dk_43 (dk_at dksL_law_62 18 rfl rfl)
theorem dL_law_1708 : decode cL_law 1708 = .ok (.aload_n 0, 1) := dk_42 (dk_at dksL_law_62 19 rfl rfl)
theorem dL_law_1709 : decode cL_law 1709 = .ok (.iload 4, 2) := dk_21 4 (dk_at dksL_law_62 20 rfl rfl)
theorem dL_law_1711 : decode cL_law 1711 = .ok (.iconst 1, 1) := dk_4 (dk_at dksL_law_62 22 rfl rfl)
theorem dL_law_1712 : decode cL_law 1712 = .ok (.iadd, 1) := dk_96 (dk_at dksL_law_62 23 rfl rfl)
theorem dL_law_1713 : decode cL_law 1713 = .ok (.iaload, 1) := dk_46 (dk_at dksL_law_63 0 rfl rfl)
theorem dL_law_1714 : decode cL_law 1714 = .ok (.aload_n 3, 1) := dk_45 (dk_at dksL_law_63 1 rfl rfl)
theorem dL_law_1715 : decode cL_law 1715 = .ok (.invokestatic 276, 3) := dk_184 1 20 (dk_at dksL_law_63 2 rfl rfl)
theorem dL_law_1718 : decode cL_law 1718 = .ok (.istore 5, 2) := dk_54 5 (dk_at dksL_law_63 5 rfl rfl)
theorem dL_law_1720 : decode cL_law 1720 = .ok (.aload_n 2, 1) := dk_44 (dk_at dksL_law_63 7 rfl rfl)
theorem dL_law_1721 : decode cL_law 1721 = .ok (.aload_n 0, 1) := dk_42 (dk_at dksL_law_63 8 rfl rfl)
theorem dL_law_1722 : decode cL_law 1722 = .ok (.iload 4, 2) := dk_21 4 (dk_at dksL_law_63 9 rfl rfl)
theorem dL_law_1724 : decode cL_law 1724 = .ok (.iconst 1, 1) := dk_4 (dk_at dksL_law_63 11 rfl rfl)
theorem dL_law_1725 : decode cL_law 1725 = .ok (.iadd, 1) := dk_96 (dk_at dksL_law_63 12 rfl rfl)
theorem dL_law_1726 : decode cL_law 1726 = .ok (.iaload, 1) := dk_46 (dk_at dksL_law_63 13 rfl rfl)
theorem dL_law_1727 : decode cL_law 1727 = .ok (.invokevirtual 278, 3) := dk_182 1 22 (dk_at dksL_law_63 14 rfl rfl)
theorem dL_law_1730 : decode cL_law 1730 = .ok (.istore 6, 2) := dk_54 6 (dk_at dksL_law_63 17 rfl rfl)
theorem dL_law_1732 : decode cL_law 1732 = .ok (.aload_n 2, 1) := dk_44 (dk_at dksL_law_63 19 rfl rfl)
theorem dL_law_1733 : decode cL_law 1733 = .ok (.invokevirtual 185, 3) := dk_182 0 185 (dk_at dksL_law_63 20 rfl rfl)
theorem dL_law_1736 : decode cL_law 1736 = .ok (.iload 5, 2) := dk_21 5 (dk_at dksL_law_64 0 rfl rfl)
theorem dL_law_1738 : decode cL_law 1738 = .ok (.if_icmp .eq 5, 3) := dk_159 0 5 (dk_at dksL_law_64 2 rfl rfl)
theorem dL_law_1741 : decode cL_law 1741 = .ok (.iconst 0, 1) := dk_3 (dk_at dksL_law_64 5 rfl rfl)
theorem dL_law_1742 : decode cL_law 1742 = .ok (.ireturn, 1) := dk_172 (dk_at dksL_law_64 6 rfl rfl)
theorem dL_law_1743 : decode cL_law 1743 = .ok (.iload 5, 2) := dk_21 5 (dk_at dksL_law_64 7 rfl rfl)
theorem dL_law_1745 : decode cL_law 1745 = .ok (.ifCond .ne 15, 3) := dk_154 0 15 (dk_at dksL_law_64 9 rfl rfl)
theorem dL_law_1748 : decode cL_law 1748 = .ok (.aload_n 3, 1) := dk_45 (dk_at dksL_law_64 12 rfl rfl)
theorem dL_law_1749 : decode cL_law 1749 = .ok (.iconst 0, 1) := dk_3 (dk_at dksL_law_64 13 rfl rfl)
theorem dL_law_1750 : decode cL_law 1750 = .ok (.laload, 1) := dk_47 (dk_at dksL_law_64 14 rfl rfl)
theorem dL_law_1751 : decode cL_law 1751 = .ok (.iload 6, 2) := dk_21 6 (dk_at dksL_law_64 15 rfl rfl)
theorem dL_law_1753 : decode cL_law 1753 = .ok (.i2l, 1) := dk_133 (dk_at dksL_law_64 17 rfl rfl)
theorem dL_law_1754 : decode cL_law 1754 = .ok (.lcmp, 1) := dk_148 (dk_at dksL_law_64 18 rfl rfl)
theorem dL_law_1755 : decode cL_law 1755 = .ok (.ifCond .eq 5, 3) := dk_153 0 5 (dk_at dksL_law_64 19 rfl rfl)
theorem dL_law_1758 : decode cL_law 1758 = .ok (.iconst 0, 1) := dk_3 (dk_at dksL_law_64 22 rfl rfl)
theorem dL_law_1759 : decode cL_law 1759 = .ok (.ireturn, 1) := dk_172 (dk_at dksL_law_64 23 rfl rfl)
theorem dL_law_1760 : decode cL_law 1760 = .ok (.goto 1960, 3) := dk_167 7 168 (dk_at dksL_law_65 0 rfl rfl)
theorem dL_law_1763 : decode cL_law 1763 = .ok (.aload_n 1, 1) := dk_43 (dk_at dksL_law_65 3 rfl rfl)
theorem dL_law_1764 : decode cL_law 1764 = .ok (.aload_n 0, 1) := dk_42 (dk_at dksL_law_65 4 rfl rfl)
theorem dL_law_1765 : decode cL_law 1765 = .ok (.iload 4, 2) := dk_21 4 (dk_at dksL_law_65 5 rfl rfl)
theorem dL_law_1767 : decode cL_law 1767 = .ok (.iconst 1, 1) := dk_4 (dk_at dksL_law_65 7 rfl rfl)
theorem dL_law_1768 : decode cL_law 1768 = .ok (.iadd, 1) := dk_96 (dk_at dksL_law_65 8 rfl rfl)
theorem dL_law_1769 : decode cL_law 1769 = .ok (.iaload, 1) := dk_46 (dk_at dksL_law_65 9 rfl rfl)
theorem dL_law_1770 : decode cL_law 1770 = .ok (.aload_n 3, 1) := dk_45 (dk_at dksL_law_65 10 rfl rfl)
theorem dL_law_1771 : decode cL_law 1771 = .ok (.invokestatic 279, 3) := dk_184 1 23 (dk_at dksL_law_65 11 rfl rfl)
theorem dL_law_1774 : decode cL_law 1774 = .ok (.istore 5, 2) := dk_54 5 (dk_at dksL_law_65 14 rfl rfl)
theorem dL_law_1776 : decode cL_law 1776 = .ok (.aload_n 2, 1) := dk_44 (dk_at dksL_law_65 16 rfl rfl)
theorem dL_law_1777 : decode cL_law 1777 = .ok (.aload_n 0, 1) := dk_42 (dk_at dksL_law_65 17 rfl rfl)
theorem dL_law_1778 : decode cL_law 1778 = .ok (.iload 4, 2) := dk_21 4 (dk_at dksL_law_65 18 rfl rfl)
theorem dL_law_1780 : decode cL_law 1780 = .ok (.iconst 1, 1) := dk_4 (dk_at dksL_law_65 20 rfl rfl)
theorem dL_law_1781 : decode cL_law 1781 = .ok (.iadd, 1) := dk_96 (dk_at dksL_law_65 21 rfl rfl)
theorem dL_law_1782 : decode cL_law 1782 = .ok (.iaload, 1) := dk_46 (dk_at dksL_law_65 22 rfl rfl)
theorem dL_law_1783 : decode cL_law 1783 = .ok (.invokevirtual 281, 3) := dk_182 1 25 (dk_at dksL_law_66 0 rfl rfl)
theorem dL_law_1786 : decode cL_law 1786 = .ok (.istore 6, 2) := dk_54 6 (dk_at dksL_law_66 3 rfl rfl)
theorem dL_law_1788 : decode cL_law 1788 = .ok (.aload_n 2, 1) := dk_44 (dk_at dksL_law_66 5 rfl rfl)
theorem dL_law_1789 : decode cL_law 1789 = .ok (.invokevirtual 185, 3) := dk_182 0 185 (dk_at dksL_law_66 6 rfl rfl)
theorem dL_law_1792 : decode cL_law 1792 = .ok (.iload 5, 2) := dk_21 5 (dk_at dksL_law_66 9 rfl rfl)
theorem dL_law_1794 : decode cL_law 1794 = .ok (.if_icmp .eq 5, 3) := dk_159 0 5 (dk_at dksL_law_66 11 rfl rfl)
theorem dL_law_1797 : decode cL_law 1797 = .ok (.iconst 0, 1) := dk_3 (dk_at dksL_law_66 14 rfl rfl)
theorem dL_law_1798 : decode cL_law 1798 = .ok (.ireturn, 1) := dk_172 (dk_at dksL_law_66 15 rfl rfl)
theorem dL_law_1799 : decode cL_law 1799 = .ok (.iload 5, 2) := dk_21 5 (dk_at dksL_law_66 16 rfl rfl)
theorem dL_law_1801 : decode cL_law 1801 = .ok (.ifCond .ne 15, 3) := dk_154 0 15 (dk_at dksL_law_66 18 rfl rfl)
theorem dL_law_1804 : decode cL_law 1804 = .ok (.aload_n 3, 1) := dk_45 (dk_at dksL_law_66 21 rfl rfl)
theorem dL_law_1805 : decode cL_law 1805 = .ok (.iconst 0, 1) := dk_3 (dk_at dksL_law_66 22 rfl rfl)
theorem dL_law_1806 : decode cL_law 1806 = .ok (.laload, 1) := dk_47 (dk_at dksL_law_66 23 rfl rfl)
theorem dL_law_1807 : decode cL_law 1807 = .ok (.iload 6, 2) := dk_21 6 (dk_at dksL_law_67 0 rfl rfl)
theorem dL_law_1809 : decode cL_law 1809 = .ok (.i2l, 1) := dk_133 (dk_at dksL_law_67 2 rfl rfl)
theorem dL_law_1810 : decode cL_law 1810 = .ok (.lcmp, 1) := dk_148 (dk_at dksL_law_67 3 rfl rfl)
theorem dL_law_1811 : decode cL_law 1811 = .ok (.ifCond .eq 5, 3) := dk_153 0 5 (dk_at dksL_law_67 4 rfl rfl)
theorem dL_law_1814 : decode cL_law 1814 = .ok (.iconst 0, 1) := dk_3 (dk_at dksL_law_67 7 rfl rfl)
theorem dL_law_1815 : decode cL_law 1815 = .ok (.ireturn, 1) := dk_172 (dk_at dksL_law_67 8 rfl rfl)
theorem dL_law_1816 : decode cL_law 1816 = .ok (.goto 1904, 3) := dk_167 7 112 (dk_at dksL_law_67 9 rfl rfl)
theorem dL_law_1819 : decode cL_law 1819 = .ok (.aload_n 1, 1) := dk_43 (dk_at dksL_law_67 12 rfl rfl)
theorem dL_law_1820 : decode cL_law 1820 = .ok (.aload_n 0, 1) := dk_42 (dk_at dksL_law_67 13 rfl rfl)
theorem dL_law_1821 : decode cL_law 1821 = .ok (.iload 4, 2) := dk_21 4 (dk_at dksL_law_67 14 rfl rfl)
theorem dL_law_1823 : decode cL_law 1823 = .ok (.iconst 1, 1) := dk_4 (dk_at dksL_law_67 16 rfl rfl)
theorem dL_law_1824 : decode cL_law 1824 = .ok (.iadd, 1) := dk_96 (dk_at dksL_law_67 17 rfl rfl)
theorem dL_law_1825 : decode cL_law 1825 = .ok (.iaload, 1) := dk_46 (dk_at dksL_law_67 18 rfl rfl)
theorem dL_law_1826 : decode cL_law 1826 = .ok (.aload_n 0, 1) := dk_42 (dk_at dksL_law_67 19 rfl rfl)
theorem dL_law_1827 : decode cL_law 1827 = .ok (.iload 4, 2) := dk_21 4 (dk_at dksL_law_67 20 rfl rfl)
theorem dL_law_1829 : decode cL_law 1829 = .ok (.iconst 2, 1) := dk_5 (dk_at dksL_law_67 22 rfl rfl)
theorem dL_law_1830 : decode cL_law 1830 = .ok (.iadd, 1) := dk_96 (dk_at dksL_law_67 23 rfl rfl)
theorem dL_law_1831 : decode cL_law 1831 = .ok (.iaload, 1) := dk_46 (dk_at dksL_law_68 0 rfl rfl)
theorem dL_law_1832 : decode cL_law 1832 = .ok (.aload_n 3, 1) := dk_45 (dk_at dksL_law_68 1 rfl rfl)
theorem dL_law_1833 : decode cL_law 1833 = .ok (.invokestatic 282, 3) := dk_184 1 26 (dk_at dksL_law_68 2 rfl rfl)
theorem dL_law_1836 : decode cL_law 1836 = .ok (.istore 5, 2) := dk_54 5 (dk_at dksL_law_68 5 rfl rfl)
theorem dL_law_1838 : decode cL_law 1838 = .ok (.aload_n 2, 1) := dk_44 (dk_at dksL_law_68 7 rfl rfl)
theorem dL_law_1839 : decode cL_law 1839 = .ok (.aload_n 0, 1) := dk_42 (dk_at dksL_law_68 8 rfl rfl)
theorem dL_law_1840 : decode cL_law 1840 = .ok (.iload 4, 2) := dk_21 4 (dk_at dksL_law_68 9 rfl rfl)
theorem dL_law_1842 : decode cL_law 1842 = .ok (.iconst 1, 1) := dk_4 (dk_at dksL_law_68 11 rfl rfl)
theorem dL_law_1843 : decode cL_law 1843 = .ok (.iadd, 1) := dk_96 (dk_at dksL_law_68 12 rfl rfl)
theorem dL_law_1844 : decode cL_law 1844 = .ok (.iaload, 1) := dk_46 (dk_at dksL_law_68 13 rfl rfl)
theorem dL_law_1845 : decode cL_law 1845 = .ok (.aload_n 0, 1) := dk_42 (dk_at dksL_law_68 14 rfl rfl)
theorem dL_law_1846 : decode cL_law 1846 = .ok (.iload 4, 2) := dk_21 4 (dk_at dksL_law_68 15 rfl rfl)
theorem dL_law_1848 : decode cL_law 1848 = .ok (.iconst 2, 1) := dk_5 (dk_at dksL_law_68 17 rfl rfl)
theorem dL_law_1849 : decode cL_law 1849 = .ok (.iadd, 1) := dk_96 (dk_at dksL_law_68 18 rfl rfl)
theorem dL_law_1850 : decode cL_law 1850 = .ok (.iaload, 1) := dk_46 (dk_at dksL_law_68 19 rfl rfl)
theorem dL_law_1851 : decode cL_law 1851 = .ok (.invokevirtual 284, 3) := dk_182 1 28 (dk_at dksL_law_68 20 rfl rfl)
theorem dL_law_1854 : decode cL_law 1854 = .ok (.istore 6, 2) := dk_54 6 (dk_at dksL_law_69 0 rfl rfl)
theorem dL_law_1856 : decode cL_law 1856 = .ok (.aload_n 2, 1) := dk_44 (dk_at dksL_law_69 2 rfl rfl)
theorem dL_law_1857 : decode cL_law 1857 = .ok (.invokevirtual 185, 3) := dk_182 0 185 (dk_at dksL_law_69 3 rfl rfl)
theorem dL_law_1860 : decode cL_law 1860 = .ok (.iload 5, 2) := dk_21 5 (dk_at dksL_law_69 6 rfl rfl)
theorem dL_law_1862 : decode cL_law 1862 = .ok (.if_icmp .eq 5, 3) := dk_159 0 5 (dk_at dksL_law_69 8 rfl rfl)
theorem dL_law_1865 : decode cL_law 1865 = .ok (.iconst 0, 1) := dk_3 (dk_at dksL_law_69 11 rfl rfl)
theorem dL_law_1866 : decode cL_law 1866 = .ok (.ireturn, 1) := dk_172 (dk_at dksL_law_69 12 rfl rfl)
theorem dL_law_1867 : decode cL_law 1867 = .ok (.iload 5, 2) := dk_21 5 (dk_at dksL_law_69 13 rfl rfl)
theorem dL_law_1869 : decode cL_law 1869 = .ok (.ifCond .ne 15, 3) := dk_154 0 15 (dk_at dksL_law_69 15 rfl rfl)
theorem dL_law_1872 : decode cL_law 1872 = .ok (.aload_n 3, 1) := dk_45 (dk_at dksL_law_69 18 rfl rfl)
theorem dL_law_1873 : decode cL_law 1873 = .ok (.iconst 0, 1) := dk_3 (dk_at dksL_law_69 19 rfl rfl)
theorem dL_law_1874 : decode cL_law 1874 = .ok (.laload, 1) := dk_47 (dk_at dksL_law_69 20 rfl rfl)
theorem dL_law_1875 : decode cL_law 1875 = .ok (.iload 6, 2) := dk_21 6 (dk_at dksL_law_69 21 rfl rfl)
theorem dL_law_1877 : decode cL_law 1877 = .ok (.i2l, 1) := dk_133 (dk_at dksL_law_69 23 rfl rfl)
theorem dL_law_1878 : decode cL_law 1878 = .ok (.lcmp, 1) := dk_148 (dk_at dksL_law_70 0 rfl rfl)
theorem dL_law_1879 : decode cL_law 1879 = .ok (.ifCond .eq 5, 3) := dk_153 0 5 (dk_at dksL_law_70 1 rfl rfl)
theorem dL_law_1882 : decode cL_law 1882 = .ok (.iconst 0, 1) := dk_3 (dk_at dksL_law_70 4 rfl rfl)
theorem dL_law_1883 : decode cL_law 1883 = .ok (.ireturn, 1) := dk_172 (dk_at dksL_law_70 5 rfl rfl)
theorem dL_law_1884 : decode cL_law 1884 = .ok (.goto 1836, 3) := dk_167 7 44 (dk_at dksL_law_70 6 rfl rfl)
theorem dL_law_1887 : decode cL_law 1887 = .ok (.aload_n 1, 1) := dk_43 (dk_at dksL_law_70 9 rfl rfl)
theorem dL_law_1888 : decode cL_law 1888 = .ok (.invokevirtual 285, 3) := dk_182 1 29 (dk_at dksL_law_70 10 rfl rfl)
theorem dL_law_1891 : decode cL_law 1891 = .ok (.aload_n 2, 1) := dk_44 (dk_at dksL_law_70 13 rfl rfl)
theorem dL_law_1892 : decode cL_law 1892 = .ok (.invokevirtual 288, 3) := dk_182 1 32 (dk_at dksL_law_70 14 rfl rfl)
theorem dL_law_1895 : decode cL_law 1895 = .ok (.if_icmp .eq 1825, 3) := dk_159 7 33 (dk_at dksL_law_70 17 rfl rfl)
theorem dL_law_1898 : decode cL_law 1898 = .ok (.iconst 0, 1) := dk_3 (dk_at dksL_law_70 20 rfl rfl)
theorem dL_law_1899 : decode cL_law 1899 = .ok (.ireturn, 1) := dk_172 (dk_at dksL_law_70 21 rfl rfl)
theorem dL_law_1900 : decode cL_law 1900 = .ok (.aload_n 1, 1) := dk_43 (dk_at dksL_law_70 22 rfl rfl)
theorem dL_law_1901 : decode cL_law 1901 = .ok (.aload_n 0, 1) := dk_42 (dk_at dksL_law_70 23 rfl rfl)
theorem dL_law_1902 : decode cL_law 1902 = .ok (.iload 4, 2) := dk_21 4 (dk_at dksL_law_71 0 rfl rfl)
theorem dL_law_1904 : decode cL_law 1904 = .ok (.iconst 1, 1) := dk_4 (dk_at dksL_law_71 2 rfl rfl)
theorem dL_law_1905 : decode cL_law 1905 = .ok (.iadd, 1) := dk_96 (dk_at dksL_law_71 3 rfl rfl)
theorem dL_law_1906 : decode cL_law 1906 = .ok (.iaload, 1) := dk_46 (dk_at dksL_law_71 4 rfl rfl)
theorem dL_law_1907 : decode cL_law 1907 = .ok (.ifCond .eq 7, 3) := dk_153 0 7 (dk_at dksL_law_71 5 rfl rfl)
theorem dL_law_1910 : decode cL_law 1910 = .ok (.iconst 1, 1) := dk_4 (dk_at dksL_law_71 8 rfl rfl)
theorem dL_law_1911 : decode cL_law 1911 = .ok (.goto 4, 3) := dk_167 0 4 (dk_at dksL_law_71 9 rfl rfl)
theorem dL_law_1914 : decode cL_law 1914 = .ok (.iconst 0, 1) := dk_3 (dk_at dksL_law_71 12 rfl rfl)
theorem dL_law_1915 : decode cL_law 1915 = .ok (.aload_n 0, 1) := dk_42 (dk_at dksL_law_71 13 rfl rfl)
theorem dL_law_1916 : decode cL_law 1916 = .ok (.iload 4, 2) := dk_21 4 (dk_at dksL_law_71 14 rfl rfl)
theorem dL_law_1918 : decode cL_law 1918 = .ok (.iconst 2, 1) := dk_5 (dk_at dksL_law_71 16 rfl rfl)
theorem dL_law_1919 : decode cL_law 1919 = .ok (.iadd, 1) := dk_96 (dk_at dksL_law_71 17 rfl rfl)
theorem dL_law_1920 : decode cL_law 1920 = .ok (.iaload, 1) := dk_46 (dk_at dksL_law_71 18 rfl rfl)
theorem dL_law_1921 : decode cL_law 1921 = .ok (.aload_n 3, 1) := dk_45 (dk_at dksL_law_71 19 rfl rfl)
theorem dL_law_1922 : decode cL_law 1922 = .ok (.invokestatic 289, 3) := dk_184 1 33 (dk_at dksL_law_71 20 rfl rfl)
theorem dL_law_1925 : decode cL_law 1925 = .ok (.istore 5, 2) := dk_54 5 (dk_at dksL_law_72 0 rfl rfl)
theorem dL_law_1927 : decode cL_law 1927 = .ok (.aload_n 2, 1) := dk_44 (dk_at dksL_law_72 2 rfl rfl)
theorem dL_law_1928 : decode cL_law 1928 = .ok (.aload_n 0, 1) := dk_42 (dk_at dksL_law_72 3 rfl rfl)
theorem dL_law_1929 : decode cL_law 1929 = .ok (.iload 4, 2) := dk_21 4 (dk_at dksL_law_72 4 rfl rfl)
theorem dL_law_1931 : decode cL_law 1931 = .ok (.iconst 1, 1) := dk_4 (dk_at dksL_law_72 6 rfl rfl)
theorem dL_law_1932 : decode cL_law 1932 = .ok (.iadd, 1) := dk_96 (dk_at dksL_law_72 7 rfl rfl)
theorem dL_law_1933 : decode cL_law 1933 = .ok (.iaload, 1) := dk_46 (dk_at dksL_law_72 8 rfl rfl)
theorem dL_law_1934 : decode cL_law 1934 = .ok (.ifCond .eq 7, 3) := dk_153 0 7 (dk_at dksL_law_72 9 rfl rfl)
theorem dL_law_1937 : decode cL_law 1937 = .ok (.iconst 1, 1) := dk_4 (dk_at dksL_law_72 12 rfl rfl)
theorem dL_law_1938 : decode cL_law 1938 = .ok (.goto 4, 3) := dk_167 0 4 (dk_at dksL_law_72 13 rfl rfl)
theorem dL_law_1941 : decode cL_law 1941 = .ok (.iconst 0, 1) := dk_3 (dk_at dksL_law_72 16 rfl rfl)
theorem dL_law_1942 : decode cL_law 1942 = .ok (.aload_n 0, 1) := dk_42 (dk_at dksL_law_72 17 rfl rfl)
theorem dL_law_1943 : decode cL_law 1943 = .ok (.iload 4, 2) := dk_21 4 (dk_at dksL_law_72 18 rfl rfl)
theorem dL_law_1945 : decode cL_law 1945 = .ok (.iconst 2, 1) := dk_5 (dk_at dksL_law_72 20 rfl rfl)
theorem dL_law_1946 : decode cL_law 1946 = .ok (.iadd, 1) := dk_96 (dk_at dksL_law_72 21 rfl rfl)
theorem dL_law_1947 : decode cL_law 1947 = .ok (.iaload, 1) := dk_46 (dk_at dksL_law_72 22 rfl rfl)
theorem dL_law_1948 : decode cL_law 1948 = .ok (.invokevirtual 292, 3) := dk_182 1 36 (dk_at dksL_law_73 0 rfl rfl)
theorem dL_law_1951 : decode cL_law 1951 = .ok (.istore 6, 2) := dk_54 6 (dk_at dksL_law_73 3 rfl rfl)
theorem dL_law_1953 : decode cL_law 1953 = .ok (.aload_n 2, 1) := dk_44 (dk_at dksL_law_73 5 rfl rfl)
theorem dL_law_1954 : decode cL_law 1954 = .ok (.invokevirtual 185, 3) := dk_182 0 185 (dk_at dksL_law_73 6 rfl rfl)
theorem dL_law_1957 : decode cL_law 1957 = .ok (.iload 5, 2) := dk_21 5 (dk_at dksL_law_73 9 rfl rfl)
theorem dL_law_1959 : decode cL_law 1959 = .ok (.if_icmp .eq 5, 3) := dk_159 0 5 (dk_at dksL_law_73 11 rfl rfl)
theorem dL_law_1962 : decode cL_law 1962 = .ok (.iconst 0, 1) := dk_3 (dk_at dksL_law_73 14 rfl rfl)
theorem dL_law_1963 : decode cL_law 1963 = .ok (.ireturn, 1) := dk_172 (dk_at dksL_law_73 15 rfl rfl)
theorem dL_law_1964 : decode cL_law 1964 = .ok (.iload 5, 2) := dk_21 5 (dk_at dksL_law_73 16 rfl rfl)
theorem dL_law_1966 : decode cL_law 1966 = .ok (.ifCond .ne 15, 3) := dk_154 0 15 (dk_at dksL_law_73 18 rfl rfl)
theorem dL_law_1969 : decode cL_law 1969 = .ok (.aload_n 3, 1) := dk_45 (dk_at dksL_law_73 21 rfl rfl)
theorem dL_law_1970 : decode cL_law 1970 = .ok (.iconst 0, 1) := dk_3 (dk_at dksL_law_73 22 rfl rfl)
theorem dL_law_1971 : decode cL_law 1971 = .ok (.laload, 1) := dk_47 (dk_at dksL_law_73 23 rfl rfl)
theorem dL_law_1972 : decode cL_law 1972 = .ok (.iload 6, 2) := dk_21 6 (dk_at dksL_law_74 0 rfl rfl)
theorem dL_law_1974 : decode cL_law 1974 = .ok (.i2l, 1) := dk_133 (dk_at dksL_law_74 2 rfl rfl)
theorem dL_law_1975 : decode cL_law 1975 = .ok (.lcmp, 1) := dk_148 (dk_at dksL_law_74 3 rfl rfl)
theorem dL_law_1976 : decode cL_law 1976 = .ok (.ifCond .eq 5, 3) := dk_153 0 5 (dk_at dksL_law_74 4 rfl rfl)
theorem dL_law_1979 : decode cL_law 1979 = .ok (.iconst 0, 1) := dk_3 (dk_at dksL_law_74 7 rfl rfl)
theorem dL_law_1980 : decode cL_law 1980 = .ok (.ireturn, 1) := dk_172 (dk_at dksL_law_74 8 rfl rfl)
theorem dL_law_1981 : decode cL_law 1981 = .ok (.goto 1739, 3) := dk_167 6 203 (dk_at dksL_law_74 9 rfl rfl)
theorem dL_law_1984 : decode cL_law 1984 = .ok (.aload_n 1, 1) := dk_43 (dk_at dksL_law_74 12 rfl rfl)
theorem dL_law_1985 : decode cL_law 1985 = .ok (.aload_n 0, 1) := dk_42 (dk_at dksL_law_74 13 rfl rfl)
theorem dL_law_1986 : decode cL_law 1986 = .ok (.iload 4, 2) := dk_21 4 (dk_at dksL_law_74 14 rfl rfl)
theorem dL_law_1988 : decode cL_law 1988 = .ok (.iconst 1, 1) := dk_4 (dk_at dksL_law_74 16 rfl rfl)
theorem dL_law_1989 : decode cL_law 1989 = .ok (.iadd, 1) := dk_96 (dk_at dksL_law_74 17 rfl rfl)
theorem dL_law_1990 : decode cL_law 1990 = .ok (.iaload, 1) := dk_46 (dk_at dksL_law_74 18 rfl rfl)
theorem dL_law_1991 : decode cL_law 1991 = .ok (.aload_n 0, 1) := dk_42 (dk_at dksL_law_74 19 rfl rfl)
theorem dL_law_1992 : decode cL_law 1992 = .ok (.iload 4, 2) := dk_21 4 (dk_at dksL_law_74 20 rfl rfl)
theorem dL_law_1994 : decode cL_law 1994 = .ok (.iconst 2, 1) := dk_5 (dk_at dksL_law_74 22 rfl rfl)
theorem dL_law_1995 : decode cL_law 1995 = .ok (.iadd, 1) := dk_96 (dk_at dksL_law_74 23 rfl rfl)
theorem dL_law_1996 : decode cL_law 1996 = .ok (.iaload, 1) := dk_46 (dk_at dksL_law_75 0 rfl rfl)
theorem dL_law_1997 : decode cL_law 1997 = .ok (.ifCond .eq 7, 3) := dk_153 0 7 (dk_at dksL_law_75 1 rfl rfl)
theorem dL_law_2000 : decode cL_law 2000 = .ok (.iconst 1, 1) := dk_4 (dk_at dksL_law_75 4 rfl rfl)
theorem dL_law_2001 : decode cL_law 2001 = .ok (.goto 4, 3) := dk_167 0 4 (dk_at dksL_law_75 5 rfl rfl)
theorem dL_law_2004 : decode cL_law 2004 = .ok (.iconst 0, 1) := dk_3 (dk_at dksL_law_75 8 rfl rfl)
theorem dL_law_2005 : decode cL_law 2005 = .ok (.aload_n 3, 1) := dk_45 (dk_at dksL_law_75 9 rfl rfl)
theorem dL_law_2006 : decode cL_law 2006 = .ok (.invokestatic 293, 3) := dk_184 1 37 (dk_at dksL_law_75 10 rfl rfl)
theorem dL_law_2009 : decode cL_law 2009 = .ok (.istore 5, 2) := dk_54 5 (dk_at dksL_law_75 13 rfl rfl)
theorem dL_law_2011 : decode cL_law 2011 = .ok (.aload_n 2, 1) := dk_44 (dk_at dksL_law_75 15 rfl rfl)
theorem dL_law_2012 : decode cL_law 2012 = .ok (.aload_n 0, 1) := dk_42 (dk_at dksL_law_75 16 rfl rfl)
theorem dL_law_2013 : decode cL_law 2013 = .ok (.iload 4, 2) := dk_21 4 (dk_at dksL_law_75 17 rfl rfl)
theorem dL_law_2015 : decode cL_law 2015 = .ok (.iconst 1, 1) := dk_4 (dk_at dksL_law_75 19 rfl rfl)
theorem dL_law_2016 : decode cL_law 2016 = .ok (.iadd, 1) := dk_96 (dk_at dksL_law_75 20 rfl rfl)
theorem dL_law_2017 : decode cL_law 2017 = .ok (.iaload, 1) := dk_46 (dk_at dksL_law_75 21 rfl rfl)
theorem dL_law_2018 : decode cL_law 2018 = .ok (.aload_n 0, 1) := dk_42 (dk_at dksL_law_75 22 rfl rfl)
theorem dL_law_2019 : decode cL_law 2019 = .ok (.iload 4, 2) := dk_21 4 (dk_at dksL_law_76 0 rfl rfl)
theorem dL_law_2021 : decode cL_law 2021 = .ok (.iconst 2, 1) := dk_5 (dk_at dksL_law_76 2 rfl rfl)
theorem dL_law_2022 : decode cL_law 2022 = .ok (.iadd, 1) := dk_96 (dk_at dksL_law_76 3 rfl rfl)
theorem dL_law_2023 : decode cL_law 2023 = .ok (.iaload, 1) := dk_46 (dk_at dksL_law_76 4 rfl rfl)
theorem dL_law_2024 : decode cL_law 2024 = .ok (.ifCond .eq 7, 3) := dk_153 0 7 (dk_at dksL_law_76 5 rfl rfl)
theorem dL_law_2027 : decode cL_law 2027 = .ok (.iconst 1, 1) := dk_4 (dk_at dksL_law_76 8 rfl rfl)
theorem dL_law_2028 : decode cL_law 2028 = .ok (.goto 4, 3) := dk_167 0 4 (dk_at dksL_law_76 9 rfl rfl)
theorem dL_law_2031 : decode cL_law 2031 = .ok (.iconst 0, 1) := dk_3 (dk_at dksL_law_76 12 rfl rfl)
theorem dL_law_2032 : decode cL_law 2032 = .ok (.invokevirtual 295, 3) := dk_182 1 39 (dk_at dksL_law_76 13 rfl rfl)
theorem dL_law_2035 : decode cL_law 2035 = .ok (.istore 6, 2) := dk_54 6 (dk_at dksL_law_76 16 rfl rfl)
theorem dL_law_2037 : decode cL_law 2037 = .ok (.aload_n 2, 1) := dk_44 (dk_at dksL_law_76 18 rfl rfl)
theorem dL_law_2038 : decode cL_law 2038 = .ok (.invokevirtual 185, 3) := dk_182 0 185 (dk_at dksL_law_76 19 rfl rfl)
theorem dL_law_2041 : decode cL_law 2041 = .ok (.iload 5, 2) := dk_21 5 (dk_at dksL_law_76 22 rfl rfl)
theorem dL_law_2043 : decode cL_law 2043 = .ok (.if_icmp .eq 5, 3) := dk_159 0 5 (dk_at dksL_law_77 0 rfl rfl)
theorem dL_law_2046 : decode cL_law 2046 = .ok (.iconst 0, 1) := dk_3 (dk_at dksL_law_77 3 rfl rfl)
theorem dL_law_2047 : decode cL_law 2047 = .ok (.ireturn, 1) := dk_172 (dk_at dksL_law_77 4 rfl rfl)
theorem dL_law_2048 : decode cL_law 2048 = .ok (.iload 5, 2) := dk_21 5 (dk_at dksL_law_77 5 rfl rfl)
theorem dL_law_2050 : decode cL_law 2050 = .ok (.ifCond .ne 15, 3) := dk_154 0 15 (dk_at dksL_law_77 7 rfl rfl)
theorem dL_law_2053 : decode cL_law 2053 = .ok (.aload_n 3, 1) := dk_45 (dk_at dksL_law_77 10 rfl rfl)
theorem dL_law_2054 : decode cL_law 2054 = .ok (.iconst 0, 1) := dk_3 (dk_at dksL_law_77 11 rfl rfl)
theorem dL_law_2055 : decode cL_law 2055 = .ok (.laload, 1) := dk_47 (dk_at dksL_law_77 12 rfl rfl)
theorem dL_law_2056 : decode cL_law 2056 = .ok (.iload 6, 2) := dk_21 6 (dk_at dksL_law_77 13 rfl rfl)
theorem dL_law_2058 : decode cL_law 2058 = .ok (.i2l, 1) := dk_133 (dk_at dksL_law_77 15 rfl rfl)
theorem dL_law_2059 : decode cL_law 2059 = .ok (.lcmp, 1) := dk_148 (dk_at dksL_law_77 16 rfl rfl)
theorem dL_law_2060 : decode cL_law 2060 = .ok (.ifCond .eq 5, 3) := dk_153 0 5 (dk_at dksL_law_77 17 rfl rfl)
theorem dL_law_2063 : decode cL_law 2063 = .ok (.iconst 0, 1) := dk_3 (dk_at dksL_law_77 20 rfl rfl)
theorem dL_law_2064 : decode cL_law 2064 = .ok (.ireturn, 1) := dk_172 (dk_at dksL_law_77 21 rfl rfl)
theorem dL_law_2065 : decode cL_law 2065 = .ok (.goto 1655, 3) := dk_167 6 119 (dk_at dksL_law_78 0 rfl rfl)
theorem dL_law_2068 : decode cL_law 2068 = .ok (.aload_n 1, 1) := dk_43 (dk_at dksL_law_78 3 rfl rfl)
theorem dL_law_2069 : decode cL_law 2069 = .ok (.aload_n 0, 1) := dk_42 (dk_at dksL_law_78 4 rfl rfl)
theorem dL_law_2070 : decode cL_law 2070 = .ok (.iload 4, 2) := dk_21 4 (dk_at dksL_law_78 5 rfl rfl)
theorem dL_law_2072 : decode cL_law 2072 = .ok (.iconst 1, 1) := dk_4 (dk_at dksL_law_78 7 rfl rfl)
theorem dL_law_2073 : decode cL_law 2073 = .ok (.iadd, 1) := dk_96 (dk_at dksL_law_78 8 rfl rfl)
theorem dL_law_2074 : decode cL_law 2074 = .ok (.iaload, 1) := dk_46 (dk_at dksL_law_78 9 rfl rfl)
theorem dL_law_2075 : decode cL_law 2075 = .ok (.aload_n 3, 1) := dk_45 (dk_at dksL_law_78 10 rfl rfl)
theorem dL_law_2076 : decode cL_law 2076 = .ok (.invokestatic 296, 3) := dk_184 1 40 (dk_at dksL_law_78 11 rfl rfl)
theorem dL_law_2079 : decode cL_law 2079 = .ok (.istore 5, 2) := dk_54 5 (dk_at dksL_law_78 14 rfl rfl)
theorem dL_law_2081 : decode cL_law 2081 = .ok (.aload_n 2, 1) := dk_44 (dk_at dksL_law_78 16 rfl rfl)
theorem dL_law_2082 : decode cL_law 2082 = .ok (.aload_n 0, 1) := dk_42 (dk_at dksL_law_78 17 rfl rfl)
theorem dL_law_2083 : decode cL_law 2083 = .ok (.iload 4, 2) := dk_21 4 (dk_at dksL_law_78 18 rfl rfl)
theorem dL_law_2085 : decode cL_law 2085 = .ok (.iconst 1, 1) := dk_4 (dk_at dksL_law_78 20 rfl rfl)
theorem dL_law_2086 : decode cL_law 2086 = .ok (.iadd, 1) := dk_96 (dk_at dksL_law_78 21 rfl rfl)
theorem dL_law_2087 : decode cL_law 2087 = .ok (.iaload, 1) := dk_46 (dk_at dksL_law_78 22 rfl rfl)
theorem dL_law_2088 : decode cL_law 2088 = .ok (.invokevirtual 298, 3) := dk_182 1 42 (dk_at dksL_law_79 0 rfl rfl)
theorem dL_law_2091 : decode cL_law 2091 = .ok (.istore 6, 2) := dk_54 6 (dk_at dksL_law_79 3 rfl rfl)
theorem dL_law_2093 : decode cL_law 2093 = .ok (.aload_n 2, 1) := dk_44 (dk_at dksL_law_79 5 rfl rfl)
theorem dL_law_2094 : decode cL_law 2094 = .ok (.invokevirtual 185, 3) := dk_182 0 185 (dk_at dksL_law_79 6 rfl rfl)
theorem dL_law_2097 : decode cL_law 2097 = .ok (.iload 5, 2) := dk_21 5 (dk_at dksL_law_79 9 rfl rfl)
theorem dL_law_2099 : decode cL_law 2099 = .ok (.if_icmp .eq 5, 3) := dk_159 0 5 (dk_at dksL_law_79 11 rfl rfl)
theorem dL_law_2102 : decode cL_law 2102 = .ok (.iconst 0, 1) := dk_3 (dk_at dksL_law_79 14 rfl rfl)
theorem dL_law_2103 : decode cL_law 2103 = .ok (.ireturn, 1) := dk_172 (dk_at dksL_law_79 15 rfl rfl)
theorem dL_law_2104 : decode cL_law 2104 = .ok (.iload 5, 2) := dk_21 5 (dk_at dksL_law_79 16 rfl rfl)
theorem dL_law_2106 : decode cL_law 2106 = .ok (.ifCond .ne 15, 3) := dk_154 0 15 (dk_at dksL_law_79 18 rfl rfl)
theorem dL_law_2109 : decode cL_law 2109 = .ok (.aload_n 3, 1) := dk_45 (dk_at dksL_law_79 21 rfl rfl)
theorem dL_law_2110 : decode cL_law 2110 = .ok (.iconst 0, 1) := dk_3 (dk_at dksL_law_79 22 rfl rfl)
theorem dL_law_2111 : decode cL_law 2111 = .ok (.laload, 1) := dk_47 (dk_at dksL_law_79 23 rfl rfl)
theorem dL_law_2112 : decode cL_law 2112 = .ok (.iload 6, 2) := dk_21 6 (dk_at dksL_law_80 0 rfl rfl)
theorem dL_law_2114 : decode cL_law 2114 = .ok (.i2l, 1) := dk_133 (dk_at dksL_law_80 2 rfl rfl)
theorem dL_law_2115 : decode cL_law 2115 = .ok (.lcmp, 1) := dk_148 (dk_at dksL_law_80 3 rfl rfl)
theorem dL_law_2116 : decode cL_law 2116 = .ok (.ifCond .eq 5, 3) := dk_153 0 5 (dk_at dksL_law_80 4 rfl rfl)
theorem dL_law_2119 : decode cL_law 2119 = .ok (.iconst 0, 1) := dk_3 (dk_at dksL_law_80 7 rfl rfl)
theorem dL_law_2120 : decode cL_law 2120 = .ok (.ireturn, 1) := dk_172 (dk_at dksL_law_80 8 rfl rfl)
theorem dL_law_2121 : decode cL_law 2121 = .ok (.goto 1599, 3) := dk_167 6 63 (dk_at dksL_law_80 9 rfl rfl)
theorem dL_law_2124 : decode cL_law 2124 = .ok (.aload_n 1, 1) := dk_43 (dk_at dksL_law_80 12 rfl rfl)
theorem dL_law_2125 : decode cL_law 2125 = .ok (.invokevirtual 299, 3) := dk_182 1 43 (dk_at dksL_law_80 13 rfl rfl)
theorem dL_law_2128 : decode cL_law 2128 = .ok (.aload_n 2, 1) := dk_44 (dk_at dksL_law_80 16 rfl rfl)
theorem dL_law_2129 : decode cL_law 2129 = .ok (.invokevirtual 302, 3) := dk_182 1 46 (dk_at dksL_law_80 17 rfl rfl)
theorem dL_law_2132 : decode cL_law 2132 = .ok (.if_icmp .eq 1588, 3) := dk_159 6 52 (dk_at dksL_law_80 20 rfl rfl)
theorem dL_law_2135 : decode cL_law 2135 = .ok (.iconst 0, 1) := dk_3 (dk_at dksL_law_80 23 rfl rfl)
theorem dL_law_2136 : decode cL_law 2136 = .ok (.ireturn, 1) := dk_172 (dk_at dksL_law_81 0 rfl rfl)
theorem dL_law_2137 : decode cL_law 2137 = .ok (.aload_n 1, 1) := dk_43 (dk_at dksL_law_81 1 rfl rfl)
theorem dL_law_2138 : decode cL_law 2138 = .ok (.invokevirtual 303, 3) := dk_182 1 47 (dk_at dksL_law_81 2 rfl rfl)
theorem dL_law_2141 : decode cL_law 2141 = .ok (.aload_n 2, 1) := dk_44 (dk_at dksL_law_81 5 rfl rfl)
theorem dL_law_2142 : decode cL_law 2142 = .ok (.invokevirtual 306, 3) := dk_182 1 50 (dk_at dksL_law_81 6 rfl rfl)
theorem dL_law_2145 : decode cL_law 2145 = .ok (.if_icmp .eq 1575, 3) := dk_159 6 39 (dk_at dksL_law_81 9 rfl rfl)
theorem dL_law_2148 : decode cL_law 2148 = .ok (.iconst 0, 1) := dk_3 (dk_at dksL_law_81 12 rfl rfl)
theorem dL_law_2149 : decode cL_law 2149 = .ok (.ireturn, 1) := dk_172 (dk_at dksL_law_81 13 rfl rfl)
theorem dL_law_2150 : decode cL_law 2150 = .ok (.aload_n 1, 1) := dk_43 (dk_at dksL_law_81 14 rfl rfl)
theorem dL_law_2151 : decode cL_law 2151 = .ok (.aload_n 0, 1) := dk_42 (dk_at dksL_law_81 15 rfl rfl)
theorem dL_law_2152 : decode cL_law 2152 = .ok (.iload 4, 2) := dk_21 4 (dk_at dksL_law_81 16 rfl rfl)
theorem dL_law_2154 : decode cL_law 2154 = .ok (.iconst 1, 1) := dk_4 (dk_at dksL_law_81 18 rfl rfl)
theorem dL_law_2155 : decode cL_law 2155 = .ok (.iadd, 1) := dk_96 (dk_at dksL_law_81 19 rfl rfl)
theorem dL_law_2156 : decode cL_law 2156 = .ok (.iaload, 1) := dk_46 (dk_at dksL_law_81 20 rfl rfl)
theorem dL_law_2157 : decode cL_law 2157 = .ok (.aload_n 3, 1) := dk_45 (dk_at dksL_law_81 21 rfl rfl)
theorem dL_law_2158 : decode cL_law 2158 = .ok (.invokestatic 307, 3) := dk_184 1 51 (dk_at dksL_law_82 0 rfl rfl)
theorem dL_law_2161 : decode cL_law 2161 = .ok (.istore 5, 2) := dk_54 5 (dk_at dksL_law_82 3 rfl rfl)
theorem dL_law_2163 : decode cL_law 2163 = .ok (.aload_n 2, 1) := dk_44 (dk_at dksL_law_82 5 rfl rfl)
theorem dL_law_2164 : decode cL_law 2164 = .ok (.aload_n 0, 1) := dk_42 (dk_at dksL_law_82 6 rfl rfl)
theorem dL_law_2165 : decode cL_law 2165 = .ok (.iload 4, 2) := dk_21 4 (dk_at dksL_law_82 7 rfl rfl)
theorem dL_law_2167 : decode cL_law 2167 = .ok (.iconst 1, 1) := dk_4 (dk_at dksL_law_82 9 rfl rfl)
theorem dL_law_2168 : decode cL_law 2168 = .ok (.iadd, 1) := dk_96 (dk_at dksL_law_82 10 rfl rfl)
theorem dL_law_2169 : decode cL_law 2169 = .ok (.iaload, 1) := dk_46 (dk_at dksL_law_82 11 rfl rfl)
theorem dL_law_2170 : decode cL_law 2170 = .ok (.invokevirtual 309, 3) := dk_182 1 53 (dk_at dksL_law_82 12 rfl rfl)
theorem dL_law_2173 : decode cL_law 2173 = .ok (.istore 6, 2) := dk_54 6 (dk_at dksL_law_82 15 rfl rfl)
theorem dL_law_2175 : decode cL_law 2175 = .ok (.aload_n 2, 1) := dk_44 (dk_at dksL_law_82 17 rfl rfl)
theorem dL_law_2176 : decode cL_law 2176 = .ok (.invokevirtual 185, 3) := dk_182 0 185 (dk_at dksL_law_82 18 rfl rfl)
theorem dL_law_2179 : decode cL_law 2179 = .ok (.iload 5, 2) := dk_21 5 (dk_at dksL_law_82 21 rfl rfl)
theorem dL_law_2181 : decode cL_law 2181 = .ok (.if_icmp .eq 5, 3) := dk_159 0 5 (dk_at dksL_law_83 0 rfl rfl)
theorem dL_law_2184 : decode cL_law 2184 = .ok (.iconst 0, 1) := dk_3 (dk_at dksL_law_83 3 rfl rfl)
theorem dL_law_2185 : decode cL_law 2185 = .ok (.ireturn, 1) := dk_172 (dk_at dksL_law_83 4 rfl rfl)
theorem dL_law_2186 : decode cL_law 2186 = .ok (.iload 5, 2) := dk_21 5 (dk_at dksL_law_83 5 rfl rfl)
theorem dL_law_2188 : decode cL_law 2188 = .ok (.ifCond .ne 15, 3) := dk_154 0 15 (dk_at dksL_law_83 7 rfl rfl)
theorem dL_law_2191 : decode cL_law 2191 = .ok (.aload_n 3, 1) := dk_45 (dk_at dksL_law_83 10 rfl rfl)
theorem dL_law_2192 : decode cL_law 2192 = .ok (.iconst 0, 1) := dk_3 (dk_at dksL_law_83 11 rfl rfl)
theorem dL_law_2193 : decode cL_law 2193 = .ok (.laload, 1) := dk_47 (dk_at dksL_law_83 12 rfl rfl)
theorem dL_law_2194 : decode cL_law 2194 = .ok (.iload 6, 2) := dk_21 6 (dk_at dksL_law_83 13 rfl rfl)
theorem dL_law_2196 : decode cL_law 2196 = .ok (.i2l, 1) := dk_133 (dk_at dksL_law_83 15 rfl rfl)
theorem dL_law_2197 : decode cL_law 2197 = .ok (.lcmp, 1) := dk_148 (dk_at dksL_law_83 16 rfl rfl)
theorem dL_law_2198 : decode cL_law 2198 = .ok (.ifCond .eq 5, 3) := dk_153 0 5 (dk_at dksL_law_83 17 rfl rfl)
theorem dL_law_2201 : decode cL_law 2201 = .ok (.iconst 0, 1) := dk_3 (dk_at dksL_law_83 20 rfl rfl)
theorem dL_law_2202 : decode cL_law 2202 = .ok (.ireturn, 1) := dk_172 (dk_at dksL_law_83 21 rfl rfl)
theorem dL_law_2203 : decode cL_law 2203 = .ok (.goto 1517, 3) := dk_167 5 237 (dk_at dksL_law_84 0 rfl rfl)
theorem dL_law_2206 : decode cL_law 2206 = .ok (.aload_n 1, 1) := dk_43 (dk_at dksL_law_84 3 rfl rfl)
theorem dL_law_2207 : decode cL_law 2207 = .ok (.aload_n 0, 1) := dk_42 (dk_at dksL_law_84 4 rfl rfl)
theorem dL_law_2208 : decode cL_law 2208 = .ok (.iload 4, 2) := dk_21 4 (dk_at dksL_law_84 5 rfl rfl)
theorem dL_law_2210 : decode cL_law 2210 = .ok (.iconst 1, 1) := dk_4 (dk_at dksL_law_84 7 rfl rfl)
theorem dL_law_2211 : decode cL_law 2211 = .ok (.iadd, 1) := dk_96 (dk_at dksL_law_84 8 rfl rfl)
theorem dL_law_2212 : decode cL_law 2212 = .ok (.iaload, 1) := dk_46 (dk_at dksL_law_84 9 rfl rfl)
theorem dL_law_2213 : decode cL_law 2213 = .ok (.aload_n 0, 1) := dk_42 (dk_at dksL_law_84 10 rfl rfl)
theorem dL_law_2214 : decode cL_law 2214 = .ok (.iload 4, 2) := dk_21 4 (dk_at dksL_law_84 11 rfl rfl)
theorem dL_law_2216 : decode cL_law 2216 = .ok (.iconst 2, 1) := dk_5 (dk_at dksL_law_84 13 rfl rfl)
theorem dL_law_2217 : decode cL_law 2217 = .ok (.iadd, 1) := dk_96 (dk_at dksL_law_84 14 rfl rfl)
theorem dL_law_2218 : decode cL_law 2218 = .ok (.iaload, 1) := dk_46 (dk_at dksL_law_84 15 rfl rfl)
theorem dL_law_2219 : decode cL_law 2219 = .ok (.aload_n 3, 1) := dk_45 (dk_at dksL_law_84 16 rfl rfl)
theorem dL_law_2220 : decode cL_law 2220 = .ok (.invokestatic 310, 3) := dk_184 1 54 (dk_at dksL_law_84 17 rfl rfl)
theorem dL_law_2223 : decode cL_law 2223 = .ok (.istore 5, 2) := dk_54 5 (dk_at dksL_law_84 20 rfl rfl)
theorem dL_law_2225 : decode cL_law 2225 = .ok (.aload_n 2, 1) := dk_44 (dk_at dksL_law_84 22 rfl rfl)
theorem dL_law_2226 : decode cL_law 2226 = .ok (.aload_n 0, 1) := dk_42 (dk_at dksL_law_84 23 rfl rfl)
theorem dL_law_2227 : decode cL_law 2227 = .ok (.iload 4, 2) := dk_21 4 (dk_at dksL_law_85 0 rfl rfl)
theorem dL_law_2229 : decode cL_law 2229 = .ok (.iconst 1, 1) := dk_4 (dk_at dksL_law_85 2 rfl rfl)
theorem dL_law_2230 : decode cL_law 2230 = .ok (.iadd, 1) := dk_96 (dk_at dksL_law_85 3 rfl rfl)
theorem dL_law_2231 : decode cL_law 2231 = .ok (.iaload, 1) := dk_46 (dk_at dksL_law_85 4 rfl rfl)
theorem dL_law_2232 : decode cL_law 2232 = .ok (.aload_n 0, 1) := dk_42 (dk_at dksL_law_85 5 rfl rfl)
theorem dL_law_2233 : decode cL_law 2233 = .ok (.iload 4, 2) := dk_21 4 (dk_at dksL_law_85 6 rfl rfl)
theorem dL_law_2235 : decode cL_law 2235 = .ok (.iconst 2, 1) := dk_5 (dk_at dksL_law_85 8 rfl rfl)
theorem dL_law_2236 : decode cL_law 2236 = .ok (.iadd, 1) := dk_96 (dk_at dksL_law_85 9 rfl rfl)
theorem dL_law_2237 : decode cL_law 2237 = .ok (.iaload, 1) := dk_46 (dk_at dksL_law_85 10 rfl rfl)
theorem dL_law_2238 : decode cL_law 2238 = .ok (.invokevirtual 312, 3) := dk_182 1 56 (dk_at dksL_law_85 11 rfl rfl)
theorem dL_law_2241 : decode cL_law 2241 = .ok (.istore 6, 2) := dk_54 6 (dk_at dksL_law_85 14 rfl rfl)
theorem dL_law_2243 : decode cL_law 2243 = .ok (.aload_n 2, 1) := dk_44 (dk_at dksL_law_85 16 rfl rfl)
theorem dL_law_2244 : decode cL_law 2244 = .ok (.invokevirtual 185, 3) := dk_182 0 185 (dk_at dksL_law_85 17 rfl rfl)
theorem dL_law_2247 : decode cL_law 2247 = .ok (.iload 5, 2) := dk_21 5 (dk_at dksL_law_85 20 rfl rfl)
theorem dL_law_2249 : decode cL_law 2249 = .ok (.if_icmp .eq 5, 3) := dk_159 0 5 (dk_at dksL_law_86 0 rfl rfl)
theorem dL_law_2252 : decode cL_law 2252 = .ok (.iconst 0, 1) := dk_3 (dk_at dksL_law_86 3 rfl rfl)
theorem dL_law_2253 : decode cL_law 2253 = .ok (.ireturn, 1) := dk_172 (dk_at dksL_law_86 4 rfl rfl)
theorem dL_law_2254 : decode cL_law 2254 = .ok (.iload 5, 2) := dk_21 5 (dk_at dksL_law_86 5 rfl rfl)
theorem dL_law_2256 : decode cL_law 2256 = .ok (.ifCond .ne 15, 3) := dk_154 0 15 (dk_at dksL_law_86 7 rfl rfl)
theorem dL_law_2259 : decode cL_law 2259 = .ok (.aload_n 3, 1) := dk_45 (dk_at dksL_law_86 10 rfl rfl)
theorem dL_law_2260 : decode cL_law 2260 = .ok (.iconst 0, 1) := dk_3 (dk_at dksL_law_86 11 rfl rfl)
theorem dL_law_2261 : decode cL_law 2261 = .ok (.laload, 1) := dk_47 (dk_at dksL_law_86 12 rfl rfl)
theorem dL_law_2262 : decode cL_law 2262 = .ok (.iload 6, 2) := dk_21 6 (dk_at dksL_law_86 13 rfl rfl)
theorem dL_law_2264 : decode cL_law 2264 = .ok (.i2l, 1) := dk_133 (dk_at dksL_law_86 15 rfl rfl)
theorem dL_law_2265 : decode cL_law 2265 = .ok (.lcmp, 1) := dk_148 (dk_at dksL_law_86 16 rfl rfl)
theorem dL_law_2266 : decode cL_law 2266 = .ok (.ifCond .eq 5, 3) := dk_153 0 5 (dk_at dksL_law_86 17 rfl rfl)
theorem dL_law_2269 : decode cL_law 2269 = .ok (.iconst 0, 1) := dk_3 (dk_at dksL_law_86 20 rfl rfl)
theorem dL_law_2270 : decode cL_law 2270 = .ok (.ireturn, 1) := dk_172 (dk_at dksL_law_86 21 rfl rfl)
theorem dL_law_2271 : decode cL_law 2271 = .ok (.goto 1449, 3) := dk_167 5 169 (dk_at dksL_law_87 0 rfl rfl)
theorem dL_law_2274 : decode cL_law 2274 = .ok (.aload_n 1, 1) := dk_43 (dk_at dksL_law_87 3 rfl rfl)
theorem dL_law_2275 : decode cL_law 2275 = .ok (.aload_n 0, 1) := dk_42 (dk_at dksL_law_87 4 rfl rfl)
theorem dL_law_2276 : decode cL_law 2276 = .ok (.iload 4, 2) := dk_21 4 (dk_at dksL_law_87 5 rfl rfl)
theorem dL_law_2278 : decode cL_law 2278 = .ok (.iconst 1, 1) := dk_4 (dk_at dksL_law_87 7 rfl rfl)
theorem dL_law_2279 : decode cL_law 2279 = .ok (.iadd, 1) := dk_96 (dk_at dksL_law_87 8 rfl rfl)
theorem dL_law_2280 : decode cL_law 2280 = .ok (.iaload, 1) := dk_46 (dk_at dksL_law_87 9 rfl rfl)
theorem dL_law_2281 : decode cL_law 2281 = .ok (.aload_n 3, 1) := dk_45 (dk_at dksL_law_87 10 rfl rfl)
theorem dL_law_2282 : decode cL_law 2282 = .ok (.invokestatic 313, 3) := dk_184 1 57 (dk_at dksL_law_87 11 rfl rfl)
theorem dL_law_2285 : decode cL_law 2285 = .ok (.istore 5, 2) := dk_54 5 (dk_at dksL_law_87 14 rfl rfl)
theorem dL_law_2287 : decode cL_law 2287 = .ok (.aload_n 2, 1) := dk_44 (dk_at dksL_law_87 16 rfl rfl)
theorem dL_law_2288 : decode cL_law 2288 = .ok (.aload_n 0, 1) := dk_42 (dk_at dksL_law_87 17 rfl rfl)
theorem dL_law_2289 : decode cL_law 2289 = .ok (.iload 4, 2) := dk_21 4 (dk_at dksL_law_87 18 rfl rfl)
theorem dL_law_2291 : decode cL_law 2291 = .ok (.iconst 1, 1) := dk_4 (dk_at dksL_law_87 20 rfl rfl)
theorem dL_law_2292 : decode cL_law 2292 = .ok (.iadd, 1) := dk_96 (dk_at dksL_law_87 21 rfl rfl)
theorem dL_law_2293 : decode cL_law 2293 = .ok (.iaload, 1) := dk_46 (dk_at dksL_law_87 22 rfl rfl)
theorem dL_law_2294 : decode cL_law 2294 = .ok (.invokevirtual 315, 3) := dk_182 1 59 (dk_at dksL_law_88 0 rfl rfl)
theorem dL_law_2297 : decode cL_law 2297 = .ok (.istore 6, 2) := dk_54 6 (dk_at dksL_law_88 3 rfl rfl)
theorem dL_law_2299 : decode cL_law 2299 = .ok (.aload_n 2, 1) := dk_44 (dk_at dksL_law_88 5 rfl rfl)
theorem dL_law_2300 : decode cL_law 2300 = .ok (.invokevirtual 185, 3) := dk_182 0 185 (dk_at dksL_law_88 6 rfl rfl)
theorem dL_law_2303 : decode cL_law 2303 = .ok (.iload 5, 2) := dk_21 5 (dk_at dksL_law_88 9 rfl rfl)
theorem dL_law_2305 : decode cL_law 2305 = .ok (.if_icmp .eq 5, 3) := dk_159 0 5 (dk_at dksL_law_88 11 rfl rfl)
theorem dL_law_2308 : decode cL_law 2308 = .ok (.iconst 0, 1) := dk_3 (dk_at dksL_law_88 14 rfl rfl)
theorem dL_law_2309 : decode cL_law 2309 = .ok (.ireturn, 1) := dk_172 (dk_at dksL_law_88 15 rfl rfl)
theorem dL_law_2310 : decode cL_law 2310 = .ok (.iload 5, 2) := dk_21 5 (dk_at dksL_law_88 16 rfl rfl)
theorem dL_law_2312 : decode cL_law 2312 = .ok (.ifCond .ne 15, 3) := dk_154 0 15 (dk_at dksL_law_88 18 rfl rfl)
theorem dL_law_2315 : decode cL_law 2315 = .ok (.aload_n 3, 1) := dk_45 (dk_at dksL_law_88 21 rfl rfl)
theorem dL_law_2316 : decode cL_law 2316 = .ok (.iconst 0, 1) := dk_3 (dk_at dksL_law_88 22 rfl rfl)
theorem dL_law_2317 : decode cL_law 2317 = .ok (.laload, 1) := dk_47 (dk_at dksL_law_88 23 rfl rfl)
theorem dL_law_2318 : decode cL_law 2318 = .ok (.iload 6, 2) := dk_21 6 (dk_at dksL_law_89 0 rfl rfl)
theorem dL_law_2320 : decode cL_law 2320 = .ok (.i2l, 1) := dk_133 (dk_at dksL_law_89 2 rfl rfl)
theorem dL_law_2321 : decode cL_law 2321 = .ok (.lcmp, 1) := dk_148 (dk_at dksL_law_89 3 rfl rfl)
theorem dL_law_2322 : decode cL_law 2322 = .ok (.ifCond .eq 5, 3) := dk_153 0 5 (dk_at dksL_law_89 4 rfl rfl)
theorem dL_law_2325 : decode cL_law 2325 = .ok (.iconst 0, 1) := dk_3 (dk_at dksL_law_89 7 rfl rfl)
theorem dL_law_2326 : decode cL_law 2326 = .ok (.ireturn, 1) := dk_172 (dk_at dksL_law_89 8 rfl rfl)
theorem dL_law_2327 : decode cL_law 2327 = .ok (.goto 1393, 3) := dk_167 5 113 (dk_at dksL_law_89 9 rfl rfl)
theorem dL_law_2330 : decode cL_law 2330 = .ok (.aload_n 1, 1) := dk_43 (dk_at dksL_law_89 12 rfl rfl)
theorem dL_law_2331 : decode cL_law 2331 = .ok (.aload_n 0, 1) := dk_42 (dk_at dksL_law_89 13 rfl rfl)
theorem dL_law_2332 : decode cL_law 2332 = .ok (.iload 4, 2) := dk_21 4 (dk_at dksL_law_89 14 rfl rfl)
theorem dL_law_2334 : decode cL_law 2334 = .ok (.iconst 1, 1) := dk_4 (dk_at dksL_law_89 16 rfl rfl)
theorem dL_law_2335 : decode cL_law 2335 = .ok (.iadd, 1) := dk_96 (dk_at dksL_law_89 17 rfl rfl)
theorem dL_law_2336 : decode cL_law 2336 = .ok (.iaload, 1) := dk_46 (dk_at dksL_law_89 18 rfl rfl)
theorem dL_law_2337 : decode cL_law 2337 = .ok (.aload_n 0, 1) := dk_42 (dk_at dksL_law_89 19 rfl rfl)
theorem dL_law_2338 : decode cL_law 2338 = .ok (.iload 4, 2) := dk_21 4 (dk_at dksL_law_89 20 rfl rfl)
theorem dL_law_2340 : decode cL_law 2340 = .ok (.iconst 2, 1) := dk_5 (dk_at dksL_law_89 22 rfl rfl)
theorem dL_law_2341 : decode cL_law 2341 = .ok (.iadd, 1) := dk_96 (dk_at dksL_law_89 23 rfl rfl)
theorem dL_law_2342 : decode cL_law 2342 = .ok (.iaload, 1) := dk_46 (dk_at dksL_law_90 0 rfl rfl)
theorem dL_law_2343 : decode cL_law 2343 = .ok (.aload_n 3, 1) := dk_45 (dk_at dksL_law_90 1 rfl rfl)
theorem dL_law_2344 : decode cL_law 2344 = .ok (.invokestatic 316, 3) := dk_184 1 60 (dk_at dksL_law_90 2 rfl rfl)
theorem dL_law_2347 : decode cL_law 2347 = .ok (.istore 5, 2) := dk_54 5 (dk_at dksL_law_90 5 rfl rfl)
theorem dL_law_2349 : decode cL_law 2349 = .ok (.aload_n 2, 1) := dk_44 (dk_at dksL_law_90 7 rfl rfl)
theorem dL_law_2350 : decode cL_law 2350 = .ok (.aload_n 0, 1) := dk_42 (dk_at dksL_law_90 8 rfl rfl)
theorem dL_law_2351 : decode cL_law 2351 = .ok (.iload 4, 2) := dk_21 4 (dk_at dksL_law_90 9 rfl rfl)
theorem dL_law_2353 : decode cL_law 2353 = .ok (.iconst 1, 1) := dk_4 (dk_at dksL_law_90 11 rfl rfl)
theorem dL_law_2354 : decode cL_law 2354 = .ok (.iadd, 1) := dk_96 (dk_at dksL_law_90 12 rfl rfl)
theorem dL_law_2355 : decode cL_law 2355 = .ok (.iaload, 1) := dk_46 (dk_at dksL_law_90 13 rfl rfl)
theorem dL_law_2356 : decode cL_law 2356 = .ok (.aload_n 0, 1) := dk_42 (dk_at dksL_law_90 14 rfl rfl)
theorem dL_law_2357 : decode cL_law 2357 = .ok (.iload 4, 2) := dk_21 4 (dk_at dksL_law_90 15 rfl rfl)
theorem dL_law_2359 : decode cL_law 2359 = .ok (.iconst 2, 1) := dk_5 (dk_at dksL_law_90 17 rfl rfl)
theorem dL_law_2360 : decode cL_law 2360 = .ok (.iadd, 1) := dk_96 (dk_at dksL_law_90 18 rfl rfl)
theorem dL_law_2361 : decode cL_law 2361 = .ok (.iaload, 1) := dk_46 (dk_at dksL_law_90 19 rfl rfl)
theorem dL_law_2362 : decode cL_law 2362 = .ok (.invokevirtual 318, 3) := dk_182 1 62 (dk_at dksL_law_90 20 rfl rfl)
theorem dL_law_2365 : decode cL_law 2365 = .ok (.istore 6, 2) := dk_54 6 (dk_at dksL_law_91 0 rfl rfl)
theorem dL_law_2367 : decode cL_law 2367 = .ok (.aload_n 2, 1) := dk_44 (dk_at dksL_law_91 2 rfl rfl)
theorem dL_law_2368 : decode cL_law 2368 = .ok (.invokevirtual 185, 3) := dk_182 0 185 (dk_at dksL_law_91 3 rfl rfl)
theorem dL_law_2371 : decode cL_law 2371 = .ok (.iload 5, 2) := dk_21 5 (dk_at dksL_law_91 6 rfl rfl)
theorem dL_law_2373 : decode cL_law 2373 = .ok (.if_icmp .eq 5, 3) := dk_159 0 5 (dk_at dksL_law_91 8 rfl rfl)
theorem dL_law_2376 : decode cL_law 2376 = .ok (.iconst 0, 1) := dk_3 (dk_at dksL_law_91 11 rfl rfl)
theorem dL_law_2377 : decode cL_law 2377 = .ok (.ireturn, 1) := dk_172 (dk_at dksL_law_91 12 rfl rfl)
theorem dL_law_2378 : decode cL_law 2378 = .ok (.iload 5, 2) := dk_21 5 (dk_at dksL_law_91 13 rfl rfl)
theorem dL_law_2380 : decode cL_law 2380 = .ok (.ifCond .ne 15, 3) := dk_154 0 15 (dk_at dksL_law_91 15 rfl rfl)
theorem dL_law_2383 : decode cL_law 2383 = .ok (.aload_n 3, 1) := dk_45 (dk_at dksL_law_91 18 rfl rfl)
theorem dL_law_2384 : decode cL_law 2384 = .ok (.iconst 0, 1) := dk_3 (dk_at dksL_law_91 19 rfl rfl)
theorem dL_law_2385 : decode cL_law 2385 = .ok (.laload, 1) := dk_47 (dk_at dksL_law_91 20 rfl rfl)
theorem dL_law_2386 : decode cL_law 2386 = .ok (.iload 6, 2) := dk_21 6 (dk_at dksL_law_91 21 rfl rfl)
theorem dL_law_2388 : decode cL_law 2388 = .ok (.i2l, 1) := dk_133 (dk_at dksL_law_91 23 rfl rfl)
theorem dL_law_2389 : decode cL_law 2389 = .ok (.lcmp, 1) := dk_148 (dk_at dksL_law_92 0 rfl rfl)
theorem dL_law_2390 : decode cL_law 2390 = .ok (.ifCond .eq 5, 3) := dk_153 0 5 (dk_at dksL_law_92 1 rfl rfl)
theorem dL_law_2393 : decode cL_law 2393 = .ok (.iconst 0, 1) := dk_3 (dk_at dksL_law_92 4 rfl rfl)
theorem dL_law_2394 : decode cL_law 2394 = .ok (.ireturn, 1) := dk_172 (dk_at dksL_law_92 5 rfl rfl)
theorem dL_law_2395 : decode cL_law 2395 = .ok (.goto 1325, 3) := dk_167 5 45 (dk_at dksL_law_92 6 rfl rfl)
theorem dL_law_2398 : decode cL_law 2398 = .ok (.aload_n 1, 1) := dk_43 (dk_at dksL_law_92 9 rfl rfl)
theorem dL_law_2399 : decode cL_law 2399 = .ok (.invokevirtual 319, 3) := dk_182 1 63 (dk_at dksL_law_92 10 rfl rfl)
theorem dL_law_2402 : decode cL_law 2402 = .ok (.aload_n 2, 1) := dk_44 (dk_at dksL_law_92 13 rfl rfl)
theorem dL_law_2403 : decode cL_law 2403 = .ok (.invokevirtual 322, 3) := dk_182 1 66 (dk_at dksL_law_92 14 rfl rfl)
theorem dL_law_2406 : decode cL_law 2406 = .ok (.if_icmp .eq 1314, 3) := dk_159 5 34 (dk_at dksL_law_92 17 rfl rfl)
theorem dL_law_2409 : decode cL_law 2409 = .ok (.iconst 0, 1) := dk_3 (dk_at dksL_law_92 20 rfl rfl)
theorem dL_law_2410 : decode cL_law 2410 = .ok (.ireturn, 1) := dk_172 (dk_at dksL_law_92 21 rfl rfl)
theorem dL_law_2411 : decode cL_law 2411 = .ok (.aload_n 1, 1) := dk_43 (dk_at dksL_law_92 22 rfl rfl)
theorem dL_law_2412 : decode cL_law 2412 = .ok (.aload_n 0, 1) := dk_42 (dk_at dksL_law_92 23 rfl rfl)
theorem dL_law_2413 : decode cL_law 2413 = .ok (.iload 4, 2) := dk_21 4 (dk_at dksL_law_93 0 rfl rfl)
theorem dL_law_2415 : decode cL_law 2415 = .ok (.iconst 1, 1) := dk_4 (dk_at dksL_law_93 2 rfl rfl)
theorem dL_law_2416 : decode cL_law 2416 = .ok (.iadd, 1) := dk_96 (dk_at dksL_law_93 3 rfl rfl)
theorem dL_law_2417 : decode cL_law 2417 = .ok (.iaload, 1) := dk_46 (dk_at dksL_law_93 4 rfl rfl)
theorem dL_law_2418 : decode cL_law 2418 = .ok (.aload_n 3, 1) := dk_45 (dk_at dksL_law_93 5 rfl rfl)
theorem dL_law_2419 : decode cL_law 2419 = .ok (.invokestatic 323, 3) := dk_184 1 67 (dk_at dksL_law_93 6 rfl rfl)
theorem dL_law_2422 : decode cL_law 2422 = .ok (.istore 5, 2) := dk_54 5 (dk_at dksL_law_93 9 rfl rfl)
theorem dL_law_2424 : decode cL_law 2424 = .ok (.aload_n 2, 1) := dk_44 (dk_at dksL_law_93 11 rfl rfl)
theorem dL_law_2425 : decode cL_law 2425 = .ok (.aload_n 0, 1) := dk_42 (dk_at dksL_law_93 12 rfl rfl)
theorem dL_law_2426 : decode cL_law 2426 = .ok (.iload 4, 2) := dk_21 4 (dk_at dksL_law_93 13 rfl rfl)
theorem dL_law_2428 : decode cL_law 2428 = .ok (.iconst 1, 1) := dk_4 (dk_at dksL_law_93 15 rfl rfl)
theorem dL_law_2429 : decode cL_law 2429 = .ok (.iadd, 1) := dk_96 (dk_at dksL_law_93 16 rfl rfl)
theorem dL_law_2430 : decode cL_law 2430 = .ok (.iaload, 1) := dk_46 (dk_at dksL_law_93 17 rfl rfl)
theorem dL_law_2431 : decode cL_law 2431 = .ok (.invokevirtual 325, 3) := dk_182 1 69 (dk_at dksL_law_93 18 rfl rfl)
theorem dL_law_2434 : decode cL_law 2434 = .ok (.istore 6, 2) := dk_54 6 (dk_at dksL_law_93 21 rfl rfl)
theorem dL_law_2436 : decode cL_law 2436 = .ok (.aload_n 2, 1) := dk_44 (dk_at dksL_law_93 23 rfl rfl)
theorem dL_law_2437 : decode cL_law 2437 = .ok (.invokevirtual 185, 3) := dk_182 0 185 (dk_at dksL_law_94 0 rfl rfl)
theorem dL_law_2440 : decode cL_law 2440 = .ok (.iload 5, 2) := dk_21 5 (dk_at dksL_law_94 3 rfl rfl)
theorem dL_law_2442 : decode cL_law 2442 = .ok (.if_icmp .eq 5, 3) := dk_159 0 5 (dk_at dksL_law_94 5 rfl rfl)
theorem dL_law_2445 : decode cL_law 2445 = .ok (.iconst 0, 1) := dk_3 (dk_at dksL_law_94 8 rfl rfl)
theorem dL_law_2446 : decode cL_law 2446 = .ok (.ireturn, 1) := dk_172 (dk_at dksL_law_94 9 rfl rfl)
theorem dL_law_2447 : decode cL_law 2447 = .ok (.iload 5, 2) := dk_21 5 (dk_at dksL_law_94 10 rfl rfl)
theorem dL_law_2449 : decode cL_law 2449 = .ok (.ifCond .ne 15, 3) := dk_154 0 15 (dk_at dksL_law_94 12 rfl rfl)
theorem dL_law_2452 : decode cL_law 2452 = .ok (.aload_n 3, 1) := dk_45 (dk_at dksL_law_94 15 rfl rfl)
theorem dL_law_2453 : decode cL_law 2453 = .ok (.iconst 0, 1) := dk_3 (dk_at dksL_law_94 16 rfl rfl)
theorem dL_law_2454 : decode cL_law 2454 = .ok (.laload, 1) := dk_47 (dk_at dksL_law_94 17 rfl rfl)
theorem dL_law_2455 : decode cL_law 2455 = .ok (.iload 6, 2) := dk_21 6 (dk_at dksL_law_94 18 rfl rfl)
theorem dL_law_2457 : decode cL_law 2457 = .ok (.i2l, 1) := dk_133 (dk_at dksL_law_94 20 rfl rfl)
theorem dL_law_2458 : decode cL_law 2458 = .ok (.lcmp, 1) := dk_148 (dk_at dksL_law_94 21 rfl rfl)
theorem dL_law_2459 : decode cL_law 2459 = .ok (.ifCond .eq 5, 3) := dk_153 0 5 (dk_at dksL_law_95 0 rfl rfl)
theorem dL_law_2462 : decode cL_law 2462 = .ok (.iconst 0, 1) := dk_3 (dk_at dksL_law_95 3 rfl rfl)
theorem dL_law_2463 : decode cL_law 2463 = .ok (.ireturn, 1) := dk_172 (dk_at dksL_law_95 4 rfl rfl)
theorem dL_law_2464 : decode cL_law 2464 = .ok (.goto 1256, 3) := dk_167 4 232 (dk_at dksL_law_95 5 rfl rfl)
theorem dL_law_2467 : decode cL_law 2467 = .ok (.aload_n 1, 1) := dk_43 (dk_at dksL_law_95 8 rfl rfl)
theorem dL_law_2468 : decode cL_law 2468 = .ok (.aload_n 0, 1) := dk_42 (dk_at dksL_law_95 9 rfl rfl)
theorem dL_law_2469 : decode cL_law 2469 = .ok (.iload 4, 2) := dk_21 4 (dk_at dksL_law_95 10 rfl rfl)
theorem dL_law_2471 : decode cL_law 2471 = .ok (.iconst 1, 1) := dk_4 (dk_at dksL_law_95 12 rfl rfl)
theorem dL_law_2472 : decode cL_law 2472 = .ok (.iadd, 1) := dk_96 (dk_at dksL_law_95 13 rfl rfl)
theorem dL_law_2473 : decode cL_law 2473 = .ok (.iaload, 1) := dk_46 (dk_at dksL_law_95 14 rfl rfl)
theorem dL_law_2474 : decode cL_law 2474 = .ok (.aload_n 0, 1) := dk_42 (dk_at dksL_law_95 15 rfl rfl)
theorem dL_law_2475 : decode cL_law 2475 = .ok (.iload 4, 2) := dk_21 4 (dk_at dksL_law_95 16 rfl rfl)
theorem dL_law_2477 : decode cL_law 2477 = .ok (.iconst 2, 1) := dk_5 (dk_at dksL_law_95 18 rfl rfl)
theorem dL_law_2478 : decode cL_law 2478 = .ok (.iadd, 1) := dk_96 (dk_at dksL_law_95 19 rfl rfl)
theorem dL_law_2479 : decode cL_law 2479 = .ok (.iaload, 1) := dk_46 (dk_at dksL_law_95 20 rfl rfl)
theorem dL_law_2480 : decode cL_law 2480 = .ok (.aload_n 3, 1) := dk_45 (dk_at dksL_law_95 21 rfl rfl)
theorem dL_law_2481 : decode cL_law 2481 = .ok (.invokestatic 326, 3) := dk_184 1 70 (dk_at dksL_law_96 0 rfl rfl)
theorem dL_law_2484 : decode cL_law 2484 = .ok (.istore 5, 2) := dk_54 5 (dk_at dksL_law_96 3 rfl rfl)
theorem dL_law_2486 : decode cL_law 2486 = .ok (.aload_n 2, 1) := dk_44 (dk_at dksL_law_96 5 rfl rfl)
theorem dL_law_2487 : decode cL_law 2487 = .ok (.aload_n 0, 1) := dk_42 (dk_at dksL_law_96 6 rfl rfl)
theorem dL_law_2488 : decode cL_law 2488 = .ok (.iload 4, 2) := dk_21 4 (dk_at dksL_law_96 7 rfl rfl)
theorem dL_law_2490 : decode cL_law 2490 = .ok (.iconst 1, 1) := dk_4 (dk_at dksL_law_96 9 rfl rfl)
theorem dL_law_2491 : decode cL_law 2491 = .ok (.iadd, 1) := dk_96 (dk_at dksL_law_96 10 rfl rfl)
theorem dL_law_2492 : decode cL_law 2492 = .ok (.iaload, 1) := dk_46 (dk_at dksL_law_96 11 rfl rfl)
theorem dL_law_2493 : decode cL_law 2493 = .ok (.aload_n 0, 1) := dk_42 (dk_at dksL_law_96 12 rfl rfl)
theorem dL_law_2494 : decode cL_law 2494 = .ok (.iload 4, 2) := dk_21 4 (dk_at dksL_law_96 13 rfl rfl)
theorem dL_law_2496 : decode cL_law 2496 = .ok (.iconst 2, 1) := dk_5 (dk_at dksL_law_96 15 rfl rfl)
theorem dL_law_2497 : decode cL_law 2497 = .ok (.iadd, 1) := dk_96 (dk_at dksL_law_96 16 rfl rfl)
theorem dL_law_2498 : decode cL_law 2498 = .ok (.iaload, 1) := dk_46 (dk_at dksL_law_96 17 rfl rfl)
theorem dL_law_2499 : decode cL_law 2499 = .ok (.invokevirtual 328, 3) := dk_182 1 72 (dk_at dksL_law_96 18 rfl rfl)
theorem dL_law_2502 : decode cL_law 2502 = .ok (.istore 6, 2) := dk_54 6 (dk_at dksL_law_96 21 rfl rfl)
theorem dL_law_2504 : decode cL_law 2504 = .ok (.aload_n 2, 1) := dk_44 (dk_at dksL_law_96 23 rfl rfl)
theorem dL_law_2505 : decode cL_law 2505 = .ok (.invokevirtual 185, 3) := dk_182 0 185 (dk_at dksL_law_97 0 rfl rfl)
theorem dL_law_2508 : decode cL_law 2508 = .ok (.iload 5, 2) := dk_21 5 (dk_at dksL_law_97 3 rfl rfl)
theorem dL_law_2510 : decode cL_law 2510 = .ok (.if_icmp .eq 5, 3) := dk_159 0 5 (dk_at dksL_law_97 5 rfl rfl)
theorem dL_law_2513 : decode cL_law 2513 = .ok (.iconst 0, 1) := dk_3 (dk_at dksL_law_97 8 rfl rfl)
theorem dL_law_2514 : decode cL_law 2514 = .ok (.ireturn, 1) := dk_172 (dk_at dksL_law_97 9 rfl rfl)
theorem dL_law_2515 : decode cL_law 2515 = .ok (.iload 5, 2) := dk_21 5 (dk_at dksL_law_97 10 rfl rfl)
theorem dL_law_2517 : decode cL_law 2517 = .ok (.ifCond .ne 15, 3) := dk_154 0 15 (dk_at dksL_law_97 12 rfl rfl)
theorem dL_law_2520 : decode cL_law 2520 = .ok (.aload_n 3, 1) := dk_45 (dk_at dksL_law_97 15 rfl rfl)
theorem dL_law_2521 : decode cL_law 2521 = .ok (.iconst 0, 1) := dk_3 (dk_at dksL_law_97 16 rfl rfl)
theorem dL_law_2522 : decode cL_law 2522 = .ok (.laload, 1) := dk_47 (dk_at dksL_law_97 17 rfl rfl)
theorem dL_law_2523 : decode cL_law 2523 = .ok (.iload 6, 2) := dk_21 6 (dk_at dksL_law_97 18 rfl rfl)
theorem dL_law_2525 : decode cL_law 2525 = .ok (.i2l, 1) := dk_133 (dk_at dksL_law_97 20 rfl rfl)
theorem dL_law_2526 : decode cL_law 2526 = .ok (.lcmp, 1) := dk_148 (dk_at dksL_law_97 21 rfl rfl)
theorem dL_law_2527 : decode cL_law 2527 = .ok (.ifCond .eq 5, 3) := dk_153 0 5 (dk_at dksL_law_98 0 rfl rfl)
theorem dL_law_2530 : decode cL_law 2530 = .ok (.iconst 0, 1) := dk_3 (dk_at dksL_law_98 3 rfl rfl)
theorem dL_law_2531 : decode cL_law 2531 = .ok (.ireturn, 1) := dk_172 (dk_at dksL_law_98 4 rfl rfl)
theorem dL_law_2532 : decode cL_law 2532 = .ok (.goto 1188, 3) := dk_167 4 164 (dk_at dksL_law_98 5 rfl rfl)
theorem dL_law_2535 : decode cL_law 2535 = .ok (.aload_n 1, 1) := dk_43 (dk_at dksL_law_98 8 rfl rfl)
theorem dL_law_2536 : decode cL_law 2536 = .ok (.aload_n 0, 1) := dk_42 (dk_at dksL_law_98 9 rfl rfl)
theorem dL_law_2537 : decode cL_law 2537 = .ok (.iload 4, 2) := dk_21 4 (dk_at dksL_law_98 10 rfl rfl)
theorem dL_law_2539 : decode cL_law 2539 = .ok (.iconst 1, 1) := dk_4 (dk_at dksL_law_98 12 rfl rfl)
theorem dL_law_2540 : decode cL_law 2540 = .ok (.iadd, 1) := dk_96 (dk_at dksL_law_98 13 rfl rfl)
theorem dL_law_2541 : decode cL_law 2541 = .ok (.iaload, 1) := dk_46 (dk_at dksL_law_98 14 rfl rfl)
theorem dL_law_2542 : decode cL_law 2542 = .ok (.aload_n 0, 1) := dk_42 (dk_at dksL_law_98 15 rfl rfl)
theorem dL_law_2543 : decode cL_law 2543 = .ok (.iload 4, 2) := dk_21 4 (dk_at dksL_law_98 16 rfl rfl)
theorem dL_law_2545 : decode cL_law 2545 = .ok (.iconst 2, 1) := dk_5 (dk_at dksL_law_98 18 rfl rfl)
theorem dL_law_2546 : decode cL_law 2546 = .ok (.iadd, 1) := dk_96 (dk_at dksL_law_98 19 rfl rfl)
theorem dL_law_2547 : decode cL_law 2547 = .ok (.iaload, 1) := dk_46 (dk_at dksL_law_98 20 rfl rfl)
theorem dL_law_2548 : decode cL_law 2548 = .ok (.aload_n 3, 1) := dk_45 (dk_at dksL_law_98 21 rfl rfl)
theorem dL_law_2549 : decode cL_law 2549 = .ok (.invokestatic 329, 3) := dk_184 1 73 (dk_at dksL_law_99 0 rfl rfl)
theorem dL_law_2552 : decode cL_law 2552 = .ok (.istore 5, 2) := dk_54 5 (dk_at dksL_law_99 3 rfl rfl)
theorem dL_law_2554 : decode cL_law 2554 = .ok (.aload_n 2, 1) := dk_44 (dk_at dksL_law_99 5 rfl rfl)
theorem dL_law_2555 : decode cL_law 2555 = .ok (.aload_n 0, 1) := dk_42 (dk_at dksL_law_99 6 rfl rfl)
theorem dL_law_2556 : decode cL_law 2556 = .ok (.iload 4, 2) := dk_21 4 (dk_at dksL_law_99 7 rfl rfl)
theorem dL_law_2558 : decode cL_law 2558 = .ok (.iconst 1, 1) := dk_4 (dk_at dksL_law_99 9 rfl rfl)
theorem dL_law_2559 : decode cL_law 2559 = .ok (.iadd, 1) := dk_96 (dk_at dksL_law_99 10 rfl rfl)
theorem dL_law_2560 : decode cL_law 2560 = .ok (.iaload, 1) := dk_46 (dk_at dksL_law_99 11 rfl rfl)
theorem dL_law_2561 : decode cL_law 2561 = .ok (.aload_n 0, 1) := dk_42 (dk_at dksL_law_99 12 rfl rfl)
theorem dL_law_2562 : decode cL_law 2562 = .ok (.iload 4, 2) := dk_21 4 (dk_at dksL_law_99 13 rfl rfl)
theorem dL_law_2564 : decode cL_law 2564 = .ok (.iconst 2, 1) := dk_5 (dk_at dksL_law_99 15 rfl rfl)
theorem dL_law_2565 : decode cL_law 2565 = .ok (.iadd, 1) := dk_96 (dk_at dksL_law_99 16 rfl rfl)
theorem dL_law_2566 : decode cL_law 2566 = .ok (.iaload, 1) := dk_46 (dk_at dksL_law_99 17 rfl rfl)
theorem dL_law_2567 : decode cL_law 2567 = .ok (.invokevirtual 331, 3) := dk_182 1 75 (dk_at dksL_law_99 18 rfl rfl)
theorem dL_law_2570 : decode cL_law 2570 = .ok (.istore 6, 2) := dk_54 6 (dk_at dksL_law_99 21 rfl rfl)
theorem dL_law_2572 : decode cL_law 2572 = .ok (.aload_n 2, 1) := dk_44 (dk_at dksL_law_99 23 rfl rfl)
theorem dL_law_2573 : decode cL_law 2573 = .ok (.invokevirtual 185, 3) := dk_182 0 185 (dk_at dksL_law_100 0 rfl rfl)
theorem dL_law_2576 : decode cL_law 2576 = .ok (.iload 5, 2) := dk_21 5 (dk_at dksL_law_100 3 rfl rfl)
theorem dL_law_2578 : decode cL_law 2578 = .ok (.if_icmp .eq 5, 3) := dk_159 0 5 (dk_at dksL_law_100 5 rfl rfl)
theorem dL_law_2581 : decode cL_law 2581 = .ok (.iconst 0, 1) := dk_3 (dk_at dksL_law_100 8 rfl rfl)
theorem dL_law_2582 : decode cL_law 2582 = .ok (.ireturn, 1) := dk_172 (dk_at dksL_law_100 9 rfl rfl)
theorem dL_law_2583 : decode cL_law 2583 = .ok (.iload 5, 2) := dk_21 5 (dk_at dksL_law_100 10 rfl rfl)
theorem dL_law_2585 : decode cL_law 2585 = .ok (.ifCond .ne 15, 3) := dk_154 0 15 (dk_at dksL_law_100 12 rfl rfl)
theorem dL_law_2588 : decode cL_law 2588 = .ok (.aload_n 3, 1) := dk_45 (dk_at dksL_law_100 15 rfl rfl)
theorem dL_law_2589 : decode cL_law 2589 = .ok (.iconst 0, 1) := dk_3 (dk_at dksL_law_100 16 rfl rfl)
theorem dL_law_2590 : decode cL_law 2590 = .ok (.laload, 1) := dk_47 (dk_at dksL_law_100 17 rfl rfl)
theorem dL_law_2591 : decode cL_law 2591 = .ok (.iload 6, 2) := dk_21 6 (dk_at dksL_law_100 18 rfl rfl)
theorem dL_law_2593 : decode cL_law 2593 = .ok (.i2l, 1) := dk_133 (dk_at dksL_law_100 20 rfl rfl)
theorem dL_law_2594 : decode cL_law 2594 = .ok (.lcmp, 1) := dk_148 (dk_at dksL_law_100 21 rfl rfl)
theorem dL_law_2595 : decode cL_law 2595 = .ok (.ifCond .eq 5, 3) := dk_153 0 5 (dk_at dksL_law_101 0 rfl rfl)
theorem dL_law_2598 : decode cL_law 2598 = .ok (.iconst 0, 1) := dk_3 (dk_at dksL_law_101 3 rfl rfl)
theorem dL_law_2599 : decode cL_law 2599 = .ok (.ireturn, 1) := dk_172 (dk_at dksL_law_101 4 rfl rfl)
theorem dL_law_2600 : decode cL_law 2600 = .ok (.goto 1120, 3) := dk_167 4 96 (dk_at dksL_law_101 5 rfl rfl)
theorem dL_law_2603 : decode cL_law 2603 = .ok (.aload_n 1, 1) := dk_43 (dk_at dksL_law_101 8 rfl rfl)
theorem dL_law_2604 : decode cL_law 2604 = .ok (.aload_n 0, 1) := dk_42 (dk_at dksL_law_101 9 rfl rfl)
theorem dL_law_2605 : decode cL_law 2605 = .ok (.iload 4, 2) := dk_21 4 (dk_at dksL_law_101 10 rfl rfl)
theorem dL_law_2607 : decode cL_law 2607 = .ok (.iconst 1, 1) := dk_4 (dk_at dksL_law_101 12 rfl rfl)
theorem dL_law_2608 : decode cL_law 2608 = .ok (.iadd, 1) := dk_96 (dk_at dksL_law_101 13 rfl rfl)
theorem dL_law_2609 : decode cL_law 2609 = .ok (.iaload, 1) := dk_46 (dk_at dksL_law_101 14 rfl rfl)
theorem dL_law_2610 : decode cL_law 2610 = .ok (.aload_n 3, 1) := dk_45 (dk_at dksL_law_101 15 rfl rfl)
theorem dL_law_2611 : decode cL_law 2611 = .ok (.invokestatic 332, 3) := dk_184 1 76 (dk_at dksL_law_101 16 rfl rfl)
theorem dL_law_2614 : decode cL_law 2614 = .ok (.istore 5, 2) := dk_54 5 (dk_at dksL_law_101 19 rfl rfl)
theorem dL_law_2616 : decode cL_law 2616 = .ok (.aload_n 2, 1) := dk_44 (dk_at dksL_law_101 21 rfl rfl)
theorem dL_law_2617 : decode cL_law 2617 = .ok (.aload_n 0, 1) := dk_42 (dk_at dksL_law_101 22 rfl rfl)
theorem dL_law_2618 : decode cL_law 2618 = .ok (.iload 4, 2) := dk_21 4 (dk_at dksL_law_102 0 rfl rfl)
theorem dL_law_2620 : decode cL_law 2620 = .ok (.iconst 1, 1) := dk_4 (dk_at dksL_law_102 2 rfl rfl)
theorem dL_law_2621 : decode cL_law 2621 = .ok (.iadd, 1) := dk_96 (dk_at dksL_law_102 3 rfl rfl)
theorem dL_law_2622 : decode cL_law 2622 = .ok (.iaload, 1) := dk_46 (dk_at dksL_law_102 4 rfl rfl)
theorem dL_law_2623 : decode cL_law 2623 = .ok (.invokevirtual 334, 3) := dk_182 1 78 (dk_at dksL_law_102 5 rfl rfl)
theorem dL_law_2626 : decode cL_law 2626 = .ok (.istore 6, 2) := dk_54 6 (dk_at dksL_law_102 8 rfl rfl)
theorem dL_law_2628 : decode cL_law 2628 = .ok (.aload_n 2, 1) := dk_44 (dk_at dksL_law_102 10 rfl rfl)
theorem dL_law_2629 : decode cL_law 2629 = .ok (.invokevirtual 185, 3) := dk_182 0 185 (dk_at dksL_law_102 11 rfl rfl)
theorem dL_law_2632 : decode cL_law 2632 = .ok (.iload 5, 2) := dk_21 5 (dk_at dksL_law_102 14 rfl rfl)
theorem dL_law_2634 : decode cL_law 2634 = .ok (.if_icmp .eq 5, 3) := dk_159 0 5 (dk_at dksL_law_102 16 rfl rfl)
theorem dL_law_2637 : decode cL_law 2637 = .ok (.iconst 0, 1) := dk_3 (dk_at dksL_law_102 19 rfl rfl)
theorem dL_law_2638 : decode cL_law 2638 = .ok (.ireturn, 1) := dk_172 (dk_at dksL_law_102 20 rfl rfl)
theorem dL_law_2639 : decode cL_law 2639 = .ok (.iload 5, 2) := dk_21 5 (dk_at dksL_law_102 21 rfl rfl)
theorem dL_law_2641 : decode cL_law 2641 = .ok (.ifCond .ne 15, 3) := dk_154 0 15 (dk_at dksL_law_103 0 rfl rfl)
theorem dL_law_2644 : decode cL_law 2644 = .ok (.aload_n 3, 1) := dk_45 (dk_at dksL_law_103 3 rfl rfl)
theorem dL_law_2645 : decode cL_law 2645 = .ok (.iconst 0, 1) := dk_3 (dk_at dksL_law_103 4 rfl rfl)
theorem dL_law_2646 : decode cL_law 2646 = .ok (.laload, 1) := dk_47 (dk_at dksL_law_103 5 rfl rfl)
theorem dL_law_2647 : decode cL_law 2647 = .ok (.iload 6, 2) := dk_21 6 (dk_at dksL_law_103 6 rfl rfl)
theorem dL_law_2649 : decode cL_law 2649 = .ok (.i2l, 1) := dk_133 (dk_at dksL_law_103 8 rfl rfl)
theorem dL_law_2650 : decode cL_law 2650 = .ok (.lcmp, 1) := dk_148 (dk_at dksL_law_103 9 rfl rfl)
theorem dL_law_2651 : decode cL_law 2651 = .ok (.ifCond .eq 5, 3) := dk_153 0 5 (dk_at dksL_law_103 10 rfl rfl)
theorem dL_law_2654 : decode cL_law 2654 = .ok (.iconst 0, 1) := dk_3 (dk_at dksL_law_103 13 rfl rfl)
theorem dL_law_2655 : decode cL_law 2655 = .ok (.ireturn, 1) := dk_172 (dk_at dksL_law_103 14 rfl rfl)
theorem dL_law_2656 : decode cL_law 2656 = .ok (.goto 1064, 3) := dk_167 4 40 (dk_at dksL_law_103 15 rfl rfl)
theorem dL_law_2659 : decode cL_law 2659 = .ok (.aload_n 1, 1) := dk_43 (dk_at dksL_law_103 18 rfl rfl)
theorem dL_law_2660 : decode cL_law 2660 = .ok (.aload_n 0, 1) := dk_42 (dk_at dksL_law_103 19 rfl rfl)
theorem dL_law_2661 : decode cL_law 2661 = .ok (.iload 4, 2) := dk_21 4 (dk_at dksL_law_103 20 rfl rfl)
theorem dL_law_2663 : decode cL_law 2663 = .ok (.iconst 1, 1) := dk_4 (dk_at dksL_law_103 22 rfl rfl)
theorem dL_law_2664 : decode cL_law 2664 = .ok (.iadd, 1) := dk_96 (dk_at dksL_law_103 23 rfl rfl)
theorem dL_law_2665 : decode cL_law 2665 = .ok (.iaload, 1) := dk_46 (dk_at dksL_law_104 0 rfl rfl)
theorem dL_law_2666 : decode cL_law 2666 = .ok (.aload_n 0, 1) := dk_42 (dk_at dksL_law_104 1 rfl rfl)
theorem dL_law_2667 : decode cL_law 2667 = .ok (.iload 4, 2) := dk_21 4 (dk_at dksL_law_104 2 rfl rfl)
theorem dL_law_2669 : decode cL_law 2669 = .ok (.iconst 2, 1) := dk_5 (dk_at dksL_law_104 4 rfl rfl)
theorem dL_law_2670 : decode cL_law 2670 = .ok (.iadd, 1) := dk_96 (dk_at dksL_law_104 5 rfl rfl)
theorem dL_law_2671 : decode cL_law 2671 = .ok (.iaload, 1) := dk_46 (dk_at dksL_law_104 6 rfl rfl)
theorem dL_law_2672 : decode cL_law 2672 = .ok (.aload_n 3, 1) := dk_45 (dk_at dksL_law_104 7 rfl rfl)
theorem dL_law_2673 : decode cL_law 2673 = .ok (.invokestatic 335, 3) := dk_184 1 79 (dk_at dksL_law_104 8 rfl rfl)
theorem dL_law_2676 : decode cL_law 2676 = .ok (.istore 5, 2) := dk_54 5 (dk_at dksL_law_104 11 rfl rfl)
theorem dL_law_2678 : decode cL_law 2678 = .ok (.aload_n 2, 1) := dk_44 (dk_at dksL_law_104 13 rfl rfl)
theorem dL_law_2679 : decode cL_law 2679 = .ok (.aload_n 0, 1) := dk_42 (dk_at dksL_law_104 14 rfl rfl)
theorem dL_law_2680 : decode cL_law 2680 = .ok (.iload 4, 2) := dk_21 4 (dk_at dksL_law_104 15 rfl rfl)
theorem dL_law_2682 : decode cL_law 2682 = .ok (.iconst 1, 1) := dk_4 (dk_at dksL_law_104 17 rfl rfl)
theorem dL_law_2683 : decode cL_law 2683 = .ok (.iadd, 1) := dk_96 (dk_at dksL_law_104 18 rfl rfl)
theorem dL_law_2684 : decode cL_law 2684 = .ok (.iaload, 1) := dk_46 (dk_at dksL_law_104 19 rfl rfl)
theorem dL_law_2685 : decode cL_law 2685 = .ok (.aload_n 0, 1) := dk_42 (dk_at dksL_law_104 20 rfl rfl)
theorem dL_law_2686 : decode cL_law 2686 = .ok (.iload 4, 2) := dk_21 4 (dk_at dksL_law_104 21 rfl rfl)
theorem dL_law_2688 : decode cL_law 2688 = .ok (.iconst 2, 1) := dk_5 (dk_at dksL_law_104 23 rfl rfl)
theorem dL_law_2689 : decode cL_law 2689 = .ok (.iadd, 1) := dk_96 (dk_at dksL_law_105 0 rfl rfl)
theorem dL_law_2690 : decode cL_law 2690 = .ok (.iaload, 1) := dk_46 (dk_at dksL_law_105 1 rfl rfl)
theorem dL_law_2691 : decode cL_law 2691 = .ok (.invokevirtual 337, 3) := dk_182 1 81 (dk_at dksL_law_105 2 rfl rfl)
theorem dL_law_2694 : decode cL_law 2694 = .ok (.istore 6, 2) := dk_54 6 (dk_at dksL_law_105 5 rfl rfl)
theorem dL_law_2696 : decode cL_law 2696 = .ok (.aload_n 2, 1) := dk_44 (dk_at dksL_law_105 7 rfl rfl)
theorem dL_law_2697 : decode cL_law 2697 = .ok (.invokevirtual 185, 3) := dk_182 0 185 (dk_at dksL_law_105 8 rfl rfl)
theorem dL_law_2700 : decode cL_law 2700 = .ok (.iload 5, 2) := dk_21 5 (dk_at dksL_law_105 11 rfl rfl)
theorem dL_law_2702 : decode cL_law 2702 = .ok (.if_icmp .eq 5, 3) := dk_159 0 5 (dk_at dksL_law_105 13 rfl rfl)
theorem dL_law_2705 : decode cL_law 2705 = .ok (.iconst 0, 1) := dk_3 (dk_at dksL_law_105 16 rfl rfl)
theorem dL_law_2706 : decode cL_law 2706 = .ok (.ireturn, 1) := dk_172 (dk_at dksL_law_105 17 rfl rfl)
theorem dL_law_2707 : decode cL_law 2707 = .ok (.iload 5, 2) := dk_21 5 (dk_at dksL_law_105 18 rfl rfl)
theorem dL_law_2709 : decode cL_law 2709 = .ok (.ifCond .ne 15, 3) := dk_154 0 15 (dk_at dksL_law_105 20 rfl rfl)
theorem dL_law_2712 : decode cL_law 2712 = .ok (.aload_n 3, 1) := dk_45 (dk_at dksL_law_105 23 rfl rfl)
theorem dL_law_2713 : decode cL_law 2713 = .ok (.iconst 0, 1) := dk_3 (dk_at dksL_law_106 0 rfl rfl)
theorem dL_law_2714 : decode cL_law 2714 = .ok (.laload, 1) := dk_47 (dk_at dksL_law_106 1 rfl rfl)
theorem dL_law_2715 : decode cL_law 2715 = .ok (.iload 6, 2) := dk_21 6 (dk_at dksL_law_106 2 rfl rfl)
theorem dL_law_2717 : decode cL_law 2717 = .ok (.i2l, 1) := dk_133 (dk_at dksL_law_106 4 rfl rfl)
theorem dL_law_2718 : decode cL_law 2718 = .ok (.lcmp, 1) := dk_148 (dk_at dksL_law_106 5 rfl rfl)
theorem dL_law_2719 : decode cL_law 2719 = .ok (.ifCond .eq 5, 3) := dk_153 0 5 (dk_at dksL_law_106 6 rfl rfl)
theorem dL_law_2722 : decode cL_law 2722 = .ok (.iconst 0, 1) := dk_3 (dk_at dksL_law_106 9 rfl rfl)
theorem dL_law_2723 : decode cL_law 2723 = .ok (.ireturn, 1) := dk_172 (dk_at dksL_law_106 10 rfl rfl)
theorem dL_law_2724 : decode cL_law 2724 = .ok (.goto 996, 3) := dk_167 3 228 (dk_at dksL_law_106 11 rfl rfl)
theorem dL_law_2727 : decode cL_law 2727 = .ok (.aload_n 1, 1) := dk_43 (dk_at dksL_law_106 14 rfl rfl)
theorem dL_law_2728 : decode cL_law 2728 = .ok (.aload_n 0, 1) := dk_42 (dk_at dksL_law_106 15 rfl rfl)
theorem dL_law_2729 : decode cL_law 2729 = .ok (.iload 4, 2) := dk_21 4 (dk_at dksL_law_106 16 rfl rfl)
theorem dL_law_2731 : decode cL_law 2731 = .ok (.iconst 1, 1) := dk_4 (dk_at dksL_law_106 18 rfl rfl)
theorem dL_law_2732 : decode cL_law 2732 = .ok (.iadd, 1) := dk_96 (dk_at dksL_law_106 19 rfl rfl)
theorem dL_law_2733 : decode cL_law 2733 = .ok (.iaload, 1) := dk_46 (dk_at dksL_law_106 20 rfl rfl)
theorem dL_law_2734 : decode cL_law 2734 = .ok (.aload_n 0, 1) := dk_42 (dk_at dksL_law_106 21 rfl rfl)
theorem dL_law_2735 : decode cL_law 2735 = .ok (.iload 4, 2) := dk_21 4 (dk_at dksL_law_106 22 rfl rfl)
theorem dL_law_2737 : decode cL_law 2737 = .ok (.iconst 2, 1) := dk_5 (dk_at dksL_law_107 0 rfl rfl)
theorem dL_law_2738 : decode cL_law 2738 = .ok (.iadd, 1) := dk_96 (dk_at dksL_law_107 1 rfl rfl)
theorem dL_law_2739 : decode cL_law 2739 = .ok (.iaload, 1) := dk_46 (dk_at dksL_law_107 2 rfl rfl)
theorem dL_law_2740 : decode cL_law 2740 = .ok (.aload_n 3, 1) := dk_45 (dk_at dksL_law_107 3 rfl rfl)
theorem dL_law_2741 : decode cL_law 2741 = .ok (.invokestatic 338, 3) := dk_184 1 82 (dk_at dksL_law_107 4 rfl rfl)
theorem dL_law_2744 : decode cL_law 2744 = .ok (.istore 5, 2) := dk_54 5 (dk_at dksL_law_107 7 rfl rfl)
theorem dL_law_2746 : decode cL_law 2746 = .ok (.aload_n 2, 1) := dk_44 (dk_at dksL_law_107 9 rfl rfl)
theorem dL_law_2747 : decode cL_law 2747 = .ok (.aload_n 0, 1) := dk_42 (dk_at dksL_law_107 10 rfl rfl)
theorem dL_law_2748 : decode cL_law 2748 = .ok (.iload 4, 2) := dk_21 4 (dk_at dksL_law_107 11 rfl rfl)
theorem dL_law_2750 : decode cL_law 2750 = .ok (.iconst 1, 1) := dk_4 (dk_at dksL_law_107 13 rfl rfl)
theorem dL_law_2751 : decode cL_law 2751 = .ok (.iadd, 1) := dk_96 (dk_at dksL_law_107 14 rfl rfl)
theorem dL_law_2752 : decode cL_law 2752 = .ok (.iaload, 1) := dk_46 (dk_at dksL_law_107 15 rfl rfl)
theorem dL_law_2753 : decode cL_law 2753 = .ok (.aload_n 0, 1) := dk_42 (dk_at dksL_law_107 16 rfl rfl)
theorem dL_law_2754 : decode cL_law 2754 = .ok (.iload 4, 2) := dk_21 4 (dk_at dksL_law_107 17 rfl rfl)
theorem dL_law_2756 : decode cL_law 2756 = .ok (.iconst 2, 1) := dk_5 (dk_at dksL_law_107 19 rfl rfl)
theorem dL_law_2757 : decode cL_law 2757 = .ok (.iadd, 1) := dk_96 (dk_at dksL_law_107 20 rfl rfl)
theorem dL_law_2758 : decode cL_law 2758 = .ok (.iaload, 1) := dk_46 (dk_at dksL_law_107 21 rfl rfl)
theorem dL_law_2759 : decode cL_law 2759 = .ok (.invokevirtual 340, 3) := dk_182 1 84 (dk_at dksL_law_108 0 rfl rfl)
theorem dL_law_2762 : decode cL_law 2762 = .ok (.istore 6, 2) := dk_54 6 (dk_at dksL_law_108 3 rfl rfl)
theorem dL_law_2764 : decode cL_law 2764 = .ok (.aload_n 2, 1) := dk_44 (dk_at dksL_law_108 5 rfl rfl)
theorem dL_law_2765 : decode cL_law 2765 = .ok (.invokevirtual 185, 3) := dk_182 0 185 (dk_at dksL_law_108 6 rfl rfl)
theorem dL_law_2768 : decode cL_law 2768 = .ok (.iload 5, 2) := dk_21 5 (dk_at dksL_law_108 9 rfl rfl)
theorem dL_law_2770 : decode cL_law 2770 = .ok (.if_icmp .eq 5, 3) := dk_159 0 5 (dk_at dksL_law_108 11 rfl rfl)
theorem dL_law_2773 : decode cL_law 2773 = .ok (.iconst 0, 1) := dk_3 (dk_at dksL_law_108 14 rfl rfl)
theorem dL_law_2774 : decode cL_law 2774 = .ok (.ireturn, 1) := dk_172 (dk_at dksL_law_108 15 rfl rfl)
theorem dL_law_2775 : decode cL_law 2775 = .ok (.iload 5, 2) := dk_21 5 (dk_at dksL_law_108 16 rfl rfl)
theorem dL_law_2777 : decode cL_law 2777 = .ok (.ifCond .ne 15, 3) := dk_154 0 15 (dk_at dksL_law_108 18 rfl rfl)
theorem dL_law_2780 : decode cL_law 2780 = .ok (.aload_n 3, 1) := dk_45 (dk_at dksL_law_108 21 rfl rfl)
theorem dL_law_2781 : decode cL_law 2781 = .ok (.iconst 0, 1) := dk_3 (dk_at dksL_law_108 22 rfl rfl)
theorem dL_law_2782 : decode cL_law 2782 = .ok (.laload, 1) := dk_47 (dk_at dksL_law_108 23 rfl rfl)
theorem dL_law_2783 : decode cL_law 2783 = .ok (.iload 6, 2) := dk_21 6 (dk_at dksL_law_109 0 rfl rfl)
theorem dL_law_2785 : decode cL_law 2785 = .ok (.i2l, 1) := dk_133 (dk_at dksL_law_109 2 rfl rfl)
theorem dL_law_2786 : decode cL_law 2786 = .ok (.lcmp, 1) := dk_148 (dk_at dksL_law_109 3 rfl rfl)
theorem dL_law_2787 : decode cL_law 2787 = .ok (.ifCond .eq 5, 3) := dk_153 0 5 (dk_at dksL_law_109 4 rfl rfl)
theorem dL_law_2790 : decode cL_law 2790 = .ok (.iconst 0, 1) := dk_3 (dk_at dksL_law_109 7 rfl rfl)
theorem dL_law_2791 : decode cL_law 2791 = .ok (.ireturn, 1) := dk_172 (dk_at dksL_law_109 8 rfl rfl)
theorem dL_law_2792 : decode cL_law 2792 = .ok (.goto 928, 3) := dk_167 3 160 (dk_at dksL_law_109 9 rfl rfl)
theorem dL_law_2795 : decode cL_law 2795 = .ok (.aload_n 1, 1) := dk_43 (dk_at dksL_law_109 12 rfl rfl)
theorem dL_law_2796 : decode cL_law 2796 = .ok (.aload_n 0, 1) := dk_42 (dk_at dksL_law_109 13 rfl rfl)
theorem dL_law_2797 : decode cL_law 2797 = .ok (.iload 4, 2) := dk_21 4 (dk_at dksL_law_109 14 rfl rfl)
theorem dL_law_2799 : decode cL_law 2799 = .ok (.iconst 1, 1) := dk_4 (dk_at dksL_law_109 16 rfl rfl)
theorem dL_law_2800 : decode cL_law 2800 = .ok (.iadd, 1) := dk_96 (dk_at dksL_law_109 17 rfl rfl)
theorem dL_law_2801 : decode cL_law 2801 = .ok (.iaload, 1) := dk_46 (dk_at dksL_law_109 18 rfl rfl)
theorem dL_law_2802 : decode cL_law 2802 = .ok (.aload_n 0, 1) := dk_42 (dk_at dksL_law_109 19 rfl rfl)
theorem dL_law_2803 : decode cL_law 2803 = .ok (.iload 4, 2) := dk_21 4 (dk_at dksL_law_109 20 rfl rfl)
theorem dL_law_2805 : decode cL_law 2805 = .ok (.iconst 2, 1) := dk_5 (dk_at dksL_law_109 22 rfl rfl)
theorem dL_law_2806 : decode cL_law 2806 = .ok (.iadd, 1) := dk_96 (dk_at dksL_law_109 23 rfl rfl)
theorem dL_law_2807 : decode cL_law 2807 = .ok (.iaload, 1) := dk_46 (dk_at dksL_law_110 0 rfl rfl)
theorem dL_law_2808 : decode cL_law 2808 = .ok (.aload_n 0, 1) := dk_42 (dk_at dksL_law_110 1 rfl rfl)
theorem dL_law_2809 : decode cL_law 2809 = .ok (.iload 4, 2) := dk_21 4 (dk_at dksL_law_110 2 rfl rfl)
theorem dL_law_2811 : decode cL_law 2811 = .ok (.iconst 3, 1) := dk_6 (dk_at dksL_law_110 4 rfl rfl)
theorem dL_law_2812 : decode cL_law 2812 = .ok (.iadd, 1) := dk_96 (dk_at dksL_law_110 5 rfl rfl)
theorem dL_law_2813 : decode cL_law 2813 = .ok (.iaload, 1) := dk_46 (dk_at dksL_law_110 6 rfl rfl)
theorem dL_law_2814 : decode cL_law 2814 = .ok (.aload_n 3, 1) := dk_45 (dk_at dksL_law_110 7 rfl rfl)
theorem dL_law_2815 : decode cL_law 2815 = .ok (.invokestatic 341, 3) := dk_184 1 85 (dk_at dksL_law_110 8 rfl rfl)
theorem dL_law_2818 : decode cL_law 2818 = .ok (.istore 5, 2) := dk_54 5 (dk_at dksL_law_110 11 rfl rfl)
theorem dL_law_2820 : decode cL_law 2820 = .ok (.aload_n 2, 1) := dk_44 (dk_at dksL_law_110 13 rfl rfl)
theorem dL_law_2821 : decode cL_law 2821 = .ok (.aload_n 0, 1) := dk_42 (dk_at dksL_law_110 14 rfl rfl)
theorem dL_law_2822 : decode cL_law 2822 = .ok (.iload 4, 2) := dk_21 4 (dk_at dksL_law_110 15 rfl rfl)
theorem dL_law_2824 : decode cL_law 2824 = .ok (.iconst 1, 1) := dk_4 (dk_at dksL_law_110 17 rfl rfl)
theorem dL_law_2825 : decode cL_law 2825 = .ok (.iadd, 1) := dk_96 (dk_at dksL_law_110 18 rfl rfl)
theorem dL_law_2826 : decode cL_law 2826 = .ok (.iaload, 1) := dk_46 (dk_at dksL_law_110 19 rfl rfl)
theorem dL_law_2827 : decode cL_law 2827 = .ok (.aload_n 0, 1) := dk_42 (dk_at dksL_law_110 20 rfl rfl)
theorem dL_law_2828 : decode cL_law 2828 = .ok (.iload 4, 2) := dk_21 4 (dk_at dksL_law_110 21 rfl rfl)
theorem dL_law_2830 : decode cL_law 2830 = .ok (.iconst 2, 1) := dk_5 (dk_at dksL_law_110 23 rfl rfl)
theorem dL_law_2831 : decode cL_law 2831 = .ok (.iadd, 1) := dk_96 (dk_at dksL_law_111 0 rfl rfl)
theorem dL_law_2832 : decode cL_law 2832 = .ok (.iaload, 1) := dk_46 (dk_at dksL_law_111 1 rfl rfl)
theorem dL_law_2833 : decode cL_law 2833 = .ok (.aload_n 0, 1) := dk_42 (dk_at dksL_law_111 2 rfl rfl)
theorem dL_law_2834 : decode cL_law 2834 = .ok (.iload 4, 2) := dk_21 4 (dk_at dksL_law_111 3 rfl rfl)
theorem dL_law_2836 : decode cL_law 2836 = .ok (.iconst 3, 1) := dk_6 (dk_at dksL_law_111 5 rfl rfl)
theorem dL_law_2837 : decode cL_law 2837 = .ok (.iadd, 1) := dk_96 (dk_at dksL_law_111 6 rfl rfl)
theorem dL_law_2838 : decode cL_law 2838 = .ok (.iaload, 1) := dk_46 (dk_at dksL_law_111 7 rfl rfl)
theorem dL_law_2839 : decode cL_law 2839 = .ok (.invokevirtual 344, 3) := dk_182 1 88 (dk_at dksL_law_111 8 rfl rfl)
theorem dL_law_2842 : decode cL_law 2842 = .ok (.istore 6, 2) := dk_54 6 (dk_at dksL_law_111 11 rfl rfl)
theorem dL_law_2844 : decode cL_law 2844 = .ok (.aload_n 2, 1) := dk_44 (dk_at dksL_law_111 13 rfl rfl)
theorem dL_law_2845 : decode cL_law 2845 = .ok (.invokevirtual 185, 3) := dk_182 0 185 (dk_at dksL_law_111 14 rfl rfl)
theorem dL_law_2848 : decode cL_law 2848 = .ok (.iload 5, 2) := dk_21 5 (dk_at dksL_law_111 17 rfl rfl)
theorem dL_law_2850 : decode cL_law 2850 = .ok (.if_icmp .eq 5, 3) := dk_159 0 5 (dk_at dksL_law_111 19 rfl rfl)
theorem dL_law_2853 : decode cL_law 2853 = .ok (.iconst 0, 1) := dk_3 (dk_at dksL_law_111 22 rfl rfl)
theorem dL_law_2854 : decode cL_law 2854 = .ok (.ireturn, 1) := dk_172 (dk_at dksL_law_111 23 rfl rfl)
theorem dL_law_2855 : decode cL_law 2855 = .ok (.iload 5, 2) := dk_21 5 (dk_at dksL_law_112 0 rfl rfl)
theorem dL_law_2857 : decode cL_law 2857 = .ok (.ifCond .ne 15, 3) := dk_154 0 15 (dk_at dksL_law_112 2 rfl rfl)
theorem dL_law_2860 : decode cL_law 2860 = .ok (.aload_n 3, 1) := dk_45 (dk_at dksL_law_112 5 rfl rfl)
theorem dL_law_2861 : decode cL_law 2861 = .ok (.iconst 0, 1) := dk_3 (dk_at dksL_law_112 6 rfl rfl)
theorem dL_law_2862 : decode cL_law 2862 = .ok (.laload, 1) := dk_47 (dk_at dksL_law_112 7 rfl rfl)
theorem dL_law_2863 : decode cL_law 2863 = .ok (.iload 6, 2) := dk_21 6 (dk_at dksL_law_112 8 rfl rfl)
theorem dL_law_2865 : decode cL_law 2865 = .ok (.i2l, 1) := dk_133 (dk_at dksL_law_112 10 rfl rfl)
theorem dL_law_2866 : decode cL_law 2866 = .ok (.lcmp, 1) := dk_148 (dk_at dksL_law_112 11 rfl rfl)
theorem dL_law_2867 : decode cL_law 2867 = .ok (.ifCond .eq 5, 3) := dk_153 0 5 (dk_at dksL_law_112 12 rfl rfl)
theorem dL_law_2870 : decode cL_law 2870 = .ok (.iconst 0, 1) := dk_3 (dk_at dksL_law_112 15 rfl rfl)
theorem dL_law_2871 : decode cL_law 2871 = .ok (.ireturn, 1) := dk_172 (dk_at dksL_law_112 16 rfl rfl)
theorem dL_law_2872 : decode cL_law 2872 = .ok (.goto 848, 3) := dk_167 3 80 (dk_at dksL_law_112 17 rfl rfl)
theorem dL_law_2875 : decode cL_law 2875 = .ok (.aload_n 1, 1) := dk_43 (dk_at dksL_law_112 20 rfl rfl)
theorem dL_law_2876 : decode cL_law 2876 = .ok (.aload_n 0, 1) := dk_42 (dk_at dksL_law_112 21 rfl rfl)
theorem dL_law_2877 : decode cL_law 2877 = .ok (.iload 4, 2) := dk_21 4 (dk_at dksL_law_112 22 rfl rfl)
theorem dL_law_2879 : decode cL_law 2879 = .ok (.iconst 1, 1) := dk_4 (dk_at dksL_law_113 0 rfl rfl)
theorem dL_law_2880 : decode cL_law 2880 = .ok (.iadd, 1) := dk_96 (dk_at dksL_law_113 1 rfl rfl)
theorem dL_law_2881 : decode cL_law 2881 = .ok (.iaload, 1) := dk_46 (dk_at dksL_law_113 2 rfl rfl)
theorem dL_law_2882 : decode cL_law 2882 = .ok (.aload_n 0, 1) := dk_42 (dk_at dksL_law_113 3 rfl rfl)
theorem dL_law_2883 : decode cL_law 2883 = .ok (.iload 4, 2) := dk_21 4 (dk_at dksL_law_113 4 rfl rfl)
theorem dL_law_2885 : decode cL_law 2885 = .ok (.iconst 2, 1) := dk_5 (dk_at dksL_law_113 6 rfl rfl)
theorem dL_law_2886 : decode cL_law 2886 = .ok (.iadd, 1) := dk_96 (dk_at dksL_law_113 7 rfl rfl)
theorem dL_law_2887 : decode cL_law 2887 = .ok (.iaload, 1) := dk_46 (dk_at dksL_law_113 8 rfl rfl)
theorem dL_law_2888 : decode cL_law 2888 = .ok (.aload_n 0, 1) := dk_42 (dk_at dksL_law_113 9 rfl rfl)
theorem dL_law_2889 : decode cL_law 2889 = .ok (.iload 4, 2) := dk_21 4 (dk_at dksL_law_113 10 rfl rfl)
theorem dL_law_2891 : decode cL_law 2891 = .ok (.iconst 3, 1) := dk_6 (dk_at dksL_law_113 12 rfl rfl)
theorem dL_law_2892 : decode cL_law 2892 = .ok (.iadd, 1) := dk_96 (dk_at dksL_law_113 13 rfl rfl)
theorem dL_law_2893 : decode cL_law 2893 = .ok (.iaload, 1) := dk_46 (dk_at dksL_law_113 14 rfl rfl)
theorem dL_law_2894 : decode cL_law 2894 = .ok (.aload_n 3, 1) := dk_45 (dk_at dksL_law_113 15 rfl rfl)
theorem dL_law_2895 : decode cL_law 2895 = .ok (.invokestatic 345, 3) := dk_184 1 89 (dk_at dksL_law_113 16 rfl rfl)
theorem dL_law_2898 : decode cL_law 2898 = .ok (.istore 5, 2) := dk_54 5 (dk_at dksL_law_113 19 rfl rfl)
theorem dL_law_2900 : decode cL_law 2900 = .ok (.aload_n 2, 1) := dk_44 (dk_at dksL_law_113 21 rfl rfl)
theorem dL_law_2901 : decode cL_law 2901 = .ok (.aload_n 0, 1) := dk_42 (dk_at dksL_law_113 22 rfl rfl)
theorem dL_law_2902 : decode cL_law 2902 = .ok (.iload 4, 2) := dk_21 4 (dk_at dksL_law_114 0 rfl rfl)
theorem dL_law_2904 : decode cL_law 2904 = .ok (.iconst 1, 1) := dk_4 (dk_at dksL_law_114 2 rfl rfl)
theorem dL_law_2905 : decode cL_law 2905 = .ok (.iadd, 1) := dk_96 (dk_at dksL_law_114 3 rfl rfl)
theorem dL_law_2906 : decode cL_law 2906 = .ok (.iaload, 1) := dk_46 (dk_at dksL_law_114 4 rfl rfl)
theorem dL_law_2907 : decode cL_law 2907 = .ok (.aload_n 0, 1) := dk_42 (dk_at dksL_law_114 5 rfl rfl)
theorem dL_law_2908 : decode cL_law 2908 = .ok (.iload 4, 2) := dk_21 4 (dk_at dksL_law_114 6 rfl rfl)
theorem dL_law_2910 : decode cL_law 2910 = .ok (.iconst 2, 1) := dk_5 (dk_at dksL_law_114 8 rfl rfl)
theorem dL_law_2911 : decode cL_law 2911 = .ok (.iadd, 1) := dk_96 (dk_at dksL_law_114 9 rfl rfl)
theorem dL_law_2912 : decode cL_law 2912 = .ok (.iaload, 1) := dk_46 (dk_at dksL_law_114 10 rfl rfl)
theorem dL_law_2913 : decode cL_law 2913 = .ok (.aload_n 0, 1) := dk_42 (dk_at dksL_law_114 11 rfl rfl)
theorem dL_law_2914 : decode cL_law 2914 = .ok (.iload 4, 2) := dk_21 4 (dk_at dksL_law_114 12 rfl rfl)
theorem dL_law_2916 : decode cL_law 2916 = .ok (.iconst 3, 1) := dk_6 (dk_at dksL_law_114 14 rfl rfl)
theorem dL_law_2917 : decode cL_law 2917 = .ok (.iadd, 1) := dk_96 (dk_at dksL_law_114 15 rfl rfl)
theorem dL_law_2918 : decode cL_law 2918 = .ok (.iaload, 1) := dk_46 (dk_at dksL_law_114 16 rfl rfl)
theorem dL_law_2919 : decode cL_law 2919 = .ok (.invokevirtual 347, 3) := dk_182 1 91 (dk_at dksL_law_114 17 rfl rfl)
theorem dL_law_2922 : decode cL_law 2922 = .ok (.istore 6, 2) := dk_54 6 (dk_at dksL_law_114 20 rfl rfl)
theorem dL_law_2924 : decode cL_law 2924 = .ok (.aload_n 2, 1) := dk_44 (dk_at dksL_law_114 22 rfl rfl)
theorem dL_law_2925 : decode cL_law 2925 = .ok (.invokevirtual 185, 3) := dk_182 0 185 (dk_at dksL_law_115 0 rfl rfl)
theorem dL_law_2928 : decode cL_law 2928 = .ok (.iload 5, 2) := dk_21 5 (dk_at dksL_law_115 3 rfl rfl)
theorem dL_law_2930 : decode cL_law 2930 = .ok (.if_icmp .eq 5, 3) := dk_159 0 5 (dk_at dksL_law_115 5 rfl rfl)
theorem dL_law_2933 : decode cL_law 2933 = .ok (.iconst 0, 1) := dk_3 (dk_at dksL_law_115 8 rfl rfl)
theorem dL_law_2934 : decode cL_law 2934 = .ok (.ireturn, 1) := dk_172 (dk_at dksL_law_115 9 rfl rfl)
theorem dL_law_2935 : decode cL_law 2935 = .ok (.iload 5, 2) := dk_21 5 (dk_at dksL_law_115 10 rfl rfl)
theorem dL_law_2937 : decode cL_law 2937 = .ok (.ifCond .ne 15, 3) := dk_154 0 15 (dk_at dksL_law_115 12 rfl rfl)
theorem dL_law_2940 : decode cL_law 2940 = .ok (.aload_n 3, 1) := dk_45 (dk_at dksL_law_115 15 rfl rfl)
theorem dL_law_2941 : decode cL_law 2941 = .ok (.iconst 0, 1) := dk_3 (dk_at dksL_law_115 16 rfl rfl)
theorem dL_law_2942 : decode cL_law 2942 = .ok (.laload, 1) := dk_47 (dk_at dksL_law_115 17 rfl rfl)
theorem dL_law_2943 : decode cL_law 2943 = .ok (.iload 6, 2) := dk_21 6 (dk_at dksL_law_115 18 rfl rfl)
theorem dL_law_2945 : decode cL_law 2945 = .ok (.i2l, 1) := dk_133 (dk_at dksL_law_115 20 rfl rfl)
theorem dL_law_2946 : decode cL_law 2946 = .ok (.lcmp, 1) := dk_148 (dk_at dksL_law_115 21 rfl rfl)
theorem dL_law_2947 : decode cL_law 2947 = .ok (.ifCond .eq 5, 3) := dk_153 0 5 (dk_at dksL_law_116 0 rfl rfl)
theorem dL_law_2950 : decode cL_law 2950 = .ok (.iconst 0, 1) := dk_3 (dk_at dksL_law_116 3 rfl rfl)
theorem dL_law_2951 : decode cL_law 2951 = .ok (.ireturn, 1) := dk_172 (dk_at dksL_law_116 4 rfl rfl)
theorem dL_law_2952 : decode cL_law 2952 = .ok (.goto 768, 3) := dk_167 3 0 (dk_at dksL_law_116 5 rfl rfl)
theorem dL_law_2955 : decode cL_law 2955 = .ok (.aload_n 1, 1) := dk_43 (dk_at dksL_law_116 8 rfl rfl)
theorem dL_law_2956 : decode cL_law 2956 = .ok (.aload_n 0, 1) := dk_42 (dk_at dksL_law_116 9 rfl rfl)
theorem dL_law_2957 : decode cL_law 2957 = .ok (.iload 4, 2) := dk_21 4 (dk_at dksL_law_116 10 rfl rfl)
theorem dL_law_2959 : decode cL_law 2959 = .ok (.iconst 1, 1) := dk_4 (dk_at dksL_law_116 12 rfl rfl)
theorem dL_law_2960 : decode cL_law 2960 = .ok (.iadd, 1) := dk_96 (dk_at dksL_law_116 13 rfl rfl)
theorem dL_law_2961 : decode cL_law 2961 = .ok (.iaload, 1) := dk_46 (dk_at dksL_law_116 14 rfl rfl)
theorem dL_law_2962 : decode cL_law 2962 = .ok (.aload_n 0, 1) := dk_42 (dk_at dksL_law_116 15 rfl rfl)
theorem dL_law_2963 : decode cL_law 2963 = .ok (.iload 4, 2) := dk_21 4 (dk_at dksL_law_116 16 rfl rfl)
theorem dL_law_2965 : decode cL_law 2965 = .ok (.iconst 2, 1) := dk_5 (dk_at dksL_law_116 18 rfl rfl)
theorem dL_law_2966 : decode cL_law 2966 = .ok (.iadd, 1) := dk_96 (dk_at dksL_law_116 19 rfl rfl)
theorem dL_law_2967 : decode cL_law 2967 = .ok (.iaload, 1) := dk_46 (dk_at dksL_law_116 20 rfl rfl)
theorem dL_law_2968 : decode cL_law 2968 = .ok (.aload_n 3, 1) := dk_45 (dk_at dksL_law_116 21 rfl rfl)
theorem dL_law_2969 : decode cL_law 2969 = .ok (.invokestatic 348, 3) := dk_184 1 92 (dk_at dksL_law_117 0 rfl rfl)
theorem dL_law_2972 : decode cL_law 2972 = .ok (.istore 5, 2) := dk_54 5 (dk_at dksL_law_117 3 rfl rfl)
theorem dL_law_2974 : decode cL_law 2974 = .ok (.aload_n 2, 1) := dk_44 (dk_at dksL_law_117 5 rfl rfl)
theorem dL_law_2975 : decode cL_law 2975 = .ok (.aload_n 0, 1) := dk_42 (dk_at dksL_law_117 6 rfl rfl)
theorem dL_law_2976 : decode cL_law 2976 = .ok (.iload 4, 2) := dk_21 4 (dk_at dksL_law_117 7 rfl rfl)
theorem dL_law_2978 : decode cL_law 2978 = .ok (.iconst 1, 1) := dk_4 (dk_at dksL_law_117 9 rfl rfl)
theorem dL_law_2979 : decode cL_law 2979 = .ok (.iadd, 1) := dk_96 (dk_at dksL_law_117 10 rfl rfl)
theorem dL_law_2980 : decode cL_law 2980 = .ok (.iaload, 1) := dk_46 (dk_at dksL_law_117 11 rfl rfl)
theorem dL_law_2981 : decode cL_law 2981 = .ok (.aload_n 0, 1) := dk_42 (dk_at dksL_law_117 12 rfl rfl)
theorem dL_law_2982 : decode cL_law 2982 = .ok (.iload 4, 2) := dk_21 4 (dk_at dksL_law_117 13 rfl rfl)
theorem dL_law_2984 : decode cL_law 2984 = .ok (.iconst 2, 1) := dk_5 (dk_at dksL_law_117 15 rfl rfl)
theorem dL_law_2985 : decode cL_law 2985 = .ok (.iadd, 1) := dk_96 (dk_at dksL_law_117 16 rfl rfl)
theorem dL_law_2986 : decode cL_law 2986 = .ok (.iaload, 1) := dk_46 (dk_at dksL_law_117 17 rfl rfl)
theorem dL_law_2987 : decode cL_law 2987 = .ok (.invokevirtual 350, 3) := dk_182 1 94 (dk_at dksL_law_117 18 rfl rfl)
theorem dL_law_2990 : decode cL_law 2990 = .ok (.istore 6, 2) := dk_54 6 (dk_at dksL_law_117 21 rfl rfl)
theorem dL_law_2992 : decode cL_law 2992 = .ok (.aload_n 2, 1) := dk_44 (dk_at dksL_law_117 23 rfl rfl)
theorem dL_law_2993 : decode cL_law 2993 = .ok (.invokevirtual 185, 3) := dk_182 0 185 (dk_at dksL_law_118 0 rfl rfl)
theorem dL_law_2996 : decode cL_law 2996 = .ok (.iload 5, 2) := dk_21 5 (dk_at dksL_law_118 3 rfl rfl)
theorem dL_law_2998 : decode cL_law 2998 = .ok (.if_icmp .eq 5, 3) := dk_159 0 5 (dk_at dksL_law_118 5 rfl rfl)
theorem dL_law_3001 : decode cL_law 3001 = .ok (.iconst 0, 1) := dk_3 (dk_at dksL_law_118 8 rfl rfl)
theorem dL_law_3002 : decode cL_law 3002 = .ok (.ireturn, 1) := dk_172 (dk_at dksL_law_118 9 rfl rfl)
theorem dL_law_3003 : decode cL_law 3003 = .ok (.iload 5, 2) := dk_21 5 (dk_at dksL_law_118 10 rfl rfl)
theorem dL_law_3005 : decode cL_law 3005 = .ok (.ifCond .ne 15, 3) := dk_154 0 15 (dk_at dksL_law_118 12 rfl rfl)
theorem dL_law_3008 : decode cL_law 3008 = .ok (.aload_n 3, 1) := dk_45 (dk_at dksL_law_118 15 rfl rfl)
theorem dL_law_3009 : decode cL_law 3009 = .ok (.iconst 0, 1) := dk_3 (dk_at dksL_law_118 16 rfl rfl)
theorem dL_law_3010 : decode cL_law 3010 = .ok (.laload, 1) := dk_47 (dk_at dksL_law_118 17 rfl rfl)
theorem dL_law_3011 : decode cL_law 3011 = .ok (.iload 6, 2) := dk_21 6 (dk_at dksL_law_118 18 rfl rfl)
theorem dL_law_3013 : decode cL_law 3013 = .ok (.i2l, 1) := dk_133 (dk_at dksL_law_118 20 rfl rfl)
theorem dL_law_3014 : decode cL_law 3014 = .ok (.lcmp, 1) := dk_148 (dk_at dksL_law_118 21 rfl rfl)
theorem dL_law_3015 : decode cL_law 3015 = .ok (.ifCond .eq 5, 3) := dk_153 0 5 (dk_at dksL_law_119 0 rfl rfl)
theorem dL_law_3018 : decode cL_law 3018 = .ok (.iconst 0, 1) := dk_3 (dk_at dksL_law_119 3 rfl rfl)
theorem dL_law_3019 : decode cL_law 3019 = .ok (.ireturn, 1) := dk_172 (dk_at dksL_law_119 4 rfl rfl)
theorem dL_law_3020 : decode cL_law 3020 = .ok (.goto 700, 3) := dk_167 2 188 (dk_at dksL_law_119 5 rfl rfl)
theorem dL_law_3023 : decode cL_law 3023 = .ok (.aload_n 1, 1) := dk_43 (dk_at dksL_law_119 8 rfl rfl)
theorem dL_law_3024 : decode cL_law 3024 = .ok (.aload_n 0, 1) := dk_42 (dk_at dksL_law_119 9 rfl rfl)
theorem dL_law_3025 : decode cL_law 3025 = .ok (.iload 4, 2) := dk_21 4 (dk_at dksL_law_119 10 rfl rfl)
theorem dL_law_3027 : decode cL_law 3027 = .ok (.iconst 1, 1) := dk_4 (dk_at dksL_law_119 12 rfl rfl)
theorem dL_law_3028 : decode cL_law 3028 = .ok (.iadd, 1) := dk_96 (dk_at dksL_law_119 13 rfl rfl)
theorem dL_law_3029 : decode cL_law 3029 = .ok (.iaload, 1) := dk_46 (dk_at dksL_law_119 14 rfl rfl)
theorem dL_law_3030 : decode cL_law 3030 = .ok (.aload_n 0, 1) := dk_42 (dk_at dksL_law_119 15 rfl rfl)
theorem dL_law_3031 : decode cL_law 3031 = .ok (.iload 4, 2) := dk_21 4 (dk_at dksL_law_119 16 rfl rfl)
theorem dL_law_3033 : decode cL_law 3033 = .ok (.iconst 2, 1) := dk_5 (dk_at dksL_law_119 18 rfl rfl)
theorem dL_law_3034 : decode cL_law 3034 = .ok (.iadd, 1) := dk_96 (dk_at dksL_law_119 19 rfl rfl)
theorem dL_law_3035 : decode cL_law 3035 = .ok (.iaload, 1) := dk_46 (dk_at dksL_law_119 20 rfl rfl)
theorem dL_law_3036 : decode cL_law 3036 = .ok (.ifCond .eq 7, 3) := dk_153 0 7 (dk_at dksL_law_119 21 rfl rfl)
theorem dL_law_3039 : decode cL_law 3039 = .ok (.iconst 1, 1) := dk_4 (dk_at dksL_law_120 0 rfl rfl)
theorem dL_law_3040 : decode cL_law 3040 = .ok (.goto 4, 3) := dk_167 0 4 (dk_at dksL_law_120 1 rfl rfl)
theorem dL_law_3043 : decode cL_law 3043 = .ok (.iconst 0, 1) := dk_3 (dk_at dksL_law_120 4 rfl rfl)
theorem dL_law_3044 : decode cL_law 3044 = .ok (.aload_n 3, 1) := dk_45 (dk_at dksL_law_120 5 rfl rfl)
theorem dL_law_3045 : decode cL_law 3045 = .ok (.invokestatic 351, 3) := dk_184 1 95 (dk_at dksL_law_120 6 rfl rfl)
theorem dL_law_3048 : decode cL_law 3048 = .ok (.istore 5, 2) := dk_54 5 (dk_at dksL_law_120 9 rfl rfl)
theorem dL_law_3050 : decode cL_law 3050 = .ok (.aload_n 2, 1) := dk_44 (dk_at dksL_law_120 11 rfl rfl)
theorem dL_law_3051 : decode cL_law 3051 = .ok (.aload_n 0, 1) := dk_42 (dk_at dksL_law_120 12 rfl rfl)
theorem dL_law_3052 : decode cL_law 3052 = .ok (.iload 4, 2) := dk_21 4 (dk_at dksL_law_120 13 rfl rfl)
theorem dL_law_3054 : decode cL_law 3054 = .ok (.iconst 1, 1) := dk_4 (dk_at dksL_law_120 15 rfl rfl)
theorem dL_law_3055 : decode cL_law 3055 = .ok (.iadd, 1) := dk_96 (dk_at dksL_law_120 16 rfl rfl)
theorem dL_law_3056 : decode cL_law 3056 = .ok (.iaload, 1) := dk_46 (dk_at dksL_law_120 17 rfl rfl)
theorem dL_law_3057 : decode cL_law 3057 = .ok (.aload_n 0, 1) := dk_42 (dk_at dksL_law_120 18 rfl rfl)
theorem dL_law_3058 : decode cL_law 3058 = .ok (.iload 4, 2) := dk_21 4 (dk_at dksL_law_120 19 rfl rfl)
theorem dL_law_3060 : decode cL_law 3060 = .ok (.iconst 2, 1) := dk_5 (dk_at dksL_law_120 21 rfl rfl)
theorem dL_law_3061 : decode cL_law 3061 = .ok (.iadd, 1) := dk_96 (dk_at dksL_law_120 22 rfl rfl)
theorem dL_law_3062 : decode cL_law 3062 = .ok (.iaload, 1) := dk_46 (dk_at dksL_law_120 23 rfl rfl)
theorem dL_law_3063 : decode cL_law 3063 = .ok (.ifCond .eq 7, 3) := dk_153 0 7 (dk_at dksL_law_121 0 rfl rfl)
theorem dL_law_3066 : decode cL_law 3066 = .ok (.iconst 1, 1) := dk_4 (dk_at dksL_law_121 3 rfl rfl)
theorem dL_law_3067 : decode cL_law 3067 = .ok (.goto 4, 3) := dk_167 0 4 (dk_at dksL_law_121 4 rfl rfl)
theorem dL_law_3070 : decode cL_law 3070 = .ok (.iconst 0, 1) := dk_3 (dk_at dksL_law_121 7 rfl rfl)
theorem dL_law_3071 : decode cL_law 3071 = .ok (.invokevirtual 353, 3) := dk_182 1 97 (dk_at dksL_law_121 8 rfl rfl)
theorem dL_law_3074 : decode cL_law 3074 = .ok (.istore 6, 2) := dk_54 6 (dk_at dksL_law_121 11 rfl rfl)
theorem dL_law_3076 : decode cL_law 3076 = .ok (.aload_n 2, 1) := dk_44 (dk_at dksL_law_121 13 rfl rfl)
theorem dL_law_3077 : decode cL_law 3077 = .ok (.invokevirtual 185, 3) := dk_182 0 185 (dk_at dksL_law_121 14 rfl rfl)
theorem dL_law_3080 : decode cL_law 3080 = .ok (.iload 5, 2) := dk_21 5 (dk_at dksL_law_121 17 rfl rfl)
theorem dL_law_3082 : decode cL_law 3082 = .ok (.if_icmp .eq 5, 3) := dk_159 0 5 (dk_at dksL_law_121 19 rfl rfl)
theorem dL_law_3085 : decode cL_law 3085 = .ok (.iconst 0, 1) := dk_3 (dk_at dksL_law_121 22 rfl rfl)
theorem dL_law_3086 : decode cL_law 3086 = .ok (.ireturn, 1) := dk_172 (dk_at dksL_law_121 23 rfl rfl)
theorem dL_law_3087 : decode cL_law 3087 = .ok (.iload 5, 2) := dk_21 5 (dk_at dksL_law_122 0 rfl rfl)
theorem dL_law_3089 : decode cL_law 3089 = .ok (.ifCond .ne 22, 3) := dk_154 0 22 (dk_at dksL_law_122 2 rfl rfl)
theorem dL_law_3092 : decode cL_law 3092 = .ok (.aload_n 3, 1) := dk_45 (dk_at dksL_law_122 5 rfl rfl)
theorem dL_law_3093 : decode cL_law 3093 = .ok (.iconst 0, 1) := dk_3 (dk_at dksL_law_122 6 rfl rfl)
theorem dL_law_3094 : decode cL_law 3094 = .ok (.laload, 1) := dk_47 (dk_at dksL_law_122 7 rfl rfl)
theorem dL_law_3095 : decode cL_law 3095 = .ok (.iload 6, 2) := dk_21 6 (dk_at dksL_law_122 8 rfl rfl)
theorem dL_law_3097 : decode cL_law 3097 = .ok (.ifCond .eq 7, 3) := dk_153 0 7 (dk_at dksL_law_122 10 rfl rfl)
theorem dL_law_3100 : decode cL_law 3100 = .ok (.lconst 1, 1) := dk_10 (dk_at dksL_law_122 13 rfl rfl)
theorem dL_law_3101 : decode cL_law 3101 = .ok (.goto 4, 3) := dk_167 0 4 (dk_at dksL_law_122 14 rfl rfl)
theorem dL_law_3104 : decode cL_law 3104 = .ok (.lconst 0, 1) := dk_9 (dk_at dksL_law_122 17 rfl rfl)
theorem dL_law_3105 : decode cL_law 3105 = .ok (.lcmp, 1) := dk_148 (dk_at dksL_law_122 18 rfl rfl)
theorem dL_law_3106 : decode cL_law 3106 = .ok (.ifCond .eq 5, 3) := dk_153 0 5 (dk_at dksL_law_122 19 rfl rfl)
theorem dL_law_3109 : decode cL_law 3109 = .ok (.iconst 0, 1) := dk_3 (dk_at dksL_law_122 22 rfl rfl)
theorem dL_law_3110 : decode cL_law 3110 = .ok (.ireturn, 1) := dk_172 (dk_at dksL_law_122 23 rfl rfl)
theorem dL_law_3111 : decode cL_law 3111 = .ok (.goto 609, 3) := dk_167 2 97 (dk_at dksL_law_123 0 rfl rfl)
theorem dL_law_3114 : decode cL_law 3114 = .ok (.aload_n 1, 1) := dk_43 (dk_at dksL_law_123 3 rfl rfl)
theorem dL_law_3115 : decode cL_law 3115 = .ok (.aload_n 0, 1) := dk_42 (dk_at dksL_law_123 4 rfl rfl)
theorem dL_law_3116 : decode cL_law 3116 = .ok (.iload 4, 2) := dk_21 4 (dk_at dksL_law_123 5 rfl rfl)
theorem dL_law_3118 : decode cL_law 3118 = .ok (.iconst 1, 1) := dk_4 (dk_at dksL_law_123 7 rfl rfl)
theorem dL_law_3119 : decode cL_law 3119 = .ok (.iadd, 1) := dk_96 (dk_at dksL_law_123 8 rfl rfl)
theorem dL_law_3120 : decode cL_law 3120 = .ok (.iaload, 1) := dk_46 (dk_at dksL_law_123 9 rfl rfl)
theorem dL_law_3121 : decode cL_law 3121 = .ok (.aload_n 3, 1) := dk_45 (dk_at dksL_law_123 10 rfl rfl)
theorem dL_law_3122 : decode cL_law 3122 = .ok (.invokestatic 354, 3) := dk_184 1 98 (dk_at dksL_law_123 11 rfl rfl)
theorem dL_law_3125 : decode cL_law 3125 = .ok (.istore 5, 2) := dk_54 5 (dk_at dksL_law_123 14 rfl rfl)
theorem dL_law_3127 : decode cL_law 3127 = .ok (.aload_n 2, 1) := dk_44 (dk_at dksL_law_123 16 rfl rfl)
theorem dL_law_3128 : decode cL_law 3128 = .ok (.aload_n 0, 1) := dk_42 (dk_at dksL_law_123 17 rfl rfl)
theorem dL_law_3129 : decode cL_law 3129 = .ok (.iload 4, 2) := dk_21 4 (dk_at dksL_law_123 18 rfl rfl)
theorem dL_law_3131 : decode cL_law 3131 = .ok (.iconst 1, 1) := dk_4 (dk_at dksL_law_123 20 rfl rfl)
theorem dL_law_3132 : decode cL_law 3132 = .ok (.iadd, 1) := dk_96 (dk_at dksL_law_123 21 rfl rfl)
theorem dL_law_3133 : decode cL_law 3133 = .ok (.iaload, 1) := dk_46 (dk_at dksL_law_123 22 rfl rfl)
theorem dL_law_3134 : decode cL_law 3134 = .ok (.invokevirtual 356, 3) := dk_182 1 100 (dk_at dksL_law_124 0 rfl rfl)
theorem dL_law_3137 : decode cL_law 3137 = .ok (.istore 6, 2) := dk_54 6 (dk_at dksL_law_124 3 rfl rfl)
theorem dL_law_3139 : decode cL_law 3139 = .ok (.aload_n 2, 1) := dk_44 (dk_at dksL_law_124 5 rfl rfl)
theorem dL_law_3140 : decode cL_law 3140 = .ok (.invokevirtual 185, 3) := dk_182 0 185 (dk_at dksL_law_124 6 rfl rfl)
theorem dL_law_3143 : decode cL_law 3143 = .ok (.iload 5, 2) := dk_21 5 (dk_at dksL_law_124 9 rfl rfl)
theorem dL_law_3145 : decode cL_law 3145 = .ok (.if_icmp .eq 5, 3) := dk_159 0 5 (dk_at dksL_law_124 11 rfl rfl)
theorem dL_law_3148 : decode cL_law 3148 = .ok (.iconst 0, 1) := dk_3 (dk_at dksL_law_124 14 rfl rfl)
theorem dL_law_3149 : decode cL_law 3149 = .ok (.ireturn, 1) := dk_172 (dk_at dksL_law_124 15 rfl rfl)
theorem dL_law_3150 : decode cL_law 3150 = .ok (.iload 5, 2) := dk_21 5 (dk_at dksL_law_124 16 rfl rfl)
theorem dL_law_3152 : decode cL_law 3152 = .ok (.ifCond .ne 15, 3) := dk_154 0 15 (dk_at dksL_law_124 18 rfl rfl)
theorem dL_law_3155 : decode cL_law 3155 = .ok (.aload_n 3, 1) := dk_45 (dk_at dksL_law_124 21 rfl rfl)
theorem dL_law_3156 : decode cL_law 3156 = .ok (.iconst 0, 1) := dk_3 (dk_at dksL_law_124 22 rfl rfl)
theorem dL_law_3157 : decode cL_law 3157 = .ok (.laload, 1) := dk_47 (dk_at dksL_law_124 23 rfl rfl)
theorem dL_law_3158 : decode cL_law 3158 = .ok (.iload 6, 2) := dk_21 6 (dk_at dksL_law_125 0 rfl rfl)
theorem dL_law_3160 : decode cL_law 3160 = .ok (.i2l, 1) := dk_133 (dk_at dksL_law_125 2 rfl rfl)
theorem dL_law_3161 : decode cL_law 3161 = .ok (.lcmp, 1) := dk_148 (dk_at dksL_law_125 3 rfl rfl)
theorem dL_law_3162 : decode cL_law 3162 = .ok (.ifCond .eq 5, 3) := dk_153 0 5 (dk_at dksL_law_125 4 rfl rfl)
theorem dL_law_3165 : decode cL_law 3165 = .ok (.iconst 0, 1) := dk_3 (dk_at dksL_law_125 7 rfl rfl)
theorem dL_law_3166 : decode cL_law 3166 = .ok (.ireturn, 1) := dk_172 (dk_at dksL_law_125 8 rfl rfl)
theorem dL_law_3167 : decode cL_law 3167 = .ok (.goto 553, 3) := dk_167 2 41 (dk_at dksL_law_125 9 rfl rfl)
theorem dL_law_3170 : decode cL_law 3170 = .ok (.aload_n 1, 1) := dk_43 (dk_at dksL_law_125 12 rfl rfl)
theorem dL_law_3171 : decode cL_law 3171 = .ok (.aload_n 0, 1) := dk_42 (dk_at dksL_law_125 13 rfl rfl)
theorem dL_law_3172 : decode cL_law 3172 = .ok (.iload 4, 2) := dk_21 4 (dk_at dksL_law_125 14 rfl rfl)
theorem dL_law_3174 : decode cL_law 3174 = .ok (.iconst 1, 1) := dk_4 (dk_at dksL_law_125 16 rfl rfl)
theorem dL_law_3175 : decode cL_law 3175 = .ok (.iadd, 1) := dk_96 (dk_at dksL_law_125 17 rfl rfl)
theorem dL_law_3176 : decode cL_law 3176 = .ok (.iaload, 1) := dk_46 (dk_at dksL_law_125 18 rfl rfl)
theorem dL_law_3177 : decode cL_law 3177 = .ok (.aload_n 3, 1) := dk_45 (dk_at dksL_law_125 19 rfl rfl)
theorem dL_law_3178 : decode cL_law 3178 = .ok (.invokestatic 357, 3) := dk_184 1 101 (dk_at dksL_law_125 20 rfl rfl)
theorem dL_law_3181 : decode cL_law 3181 = .ok (.istore 5, 2) := dk_54 5 (dk_at dksL_law_126 0 rfl rfl)
theorem dL_law_3183 : decode cL_law 3183 = .ok (.aload_n 2, 1) := dk_44 (dk_at dksL_law_126 2 rfl rfl)
theorem dL_law_3184 : decode cL_law 3184 = .ok (.aload_n 0, 1) := dk_42 (dk_at dksL_law_126 3 rfl rfl)
theorem dL_law_3185 : decode cL_law 3185 = .ok (.iload 4, 2) := dk_21 4 (dk_at dksL_law_126 4 rfl rfl)
theorem dL_law_3187 : decode cL_law 3187 = .ok (.iconst 1, 1) := dk_4 (dk_at dksL_law_126 6 rfl rfl)
theorem dL_law_3188 : decode cL_law 3188 = .ok (.iadd, 1) := dk_96 (dk_at dksL_law_126 7 rfl rfl)
theorem dL_law_3189 : decode cL_law 3189 = .ok (.iaload, 1) := dk_46 (dk_at dksL_law_126 8 rfl rfl)
theorem dL_law_3190 : decode cL_law 3190 = .ok (.invokevirtual 359, 3) := dk_182 1 103 (dk_at dksL_law_126 9 rfl rfl)
theorem dL_law_3193 : decode cL_law 3193 = .ok (.istore 6, 2) := dk_54 6 (dk_at dksL_law_126 12 rfl rfl)
theorem dL_law_3195 : decode cL_law 3195 = .ok (.aload_n 2, 1) := dk_44 (dk_at dksL_law_126 14 rfl rfl)
theorem dL_law_3196 : decode cL_law 3196 = .ok (.invokevirtual 185, 3) := dk_182 0 185 (dk_at dksL_law_126 15 rfl rfl)
theorem dL_law_3199 : decode cL_law 3199 = .ok (.iload 5, 2) := dk_21 5 (dk_at dksL_law_126 18 rfl rfl)
theorem dL_law_3201 : decode cL_law 3201 = .ok (.if_icmp .eq 5, 3) := dk_159 0 5 (dk_at dksL_law_126 20 rfl rfl)
theorem dL_law_3204 : decode cL_law 3204 = .ok (.iconst 0, 1) := dk_3 (dk_at dksL_law_126 23 rfl rfl)
theorem dL_law_3205 : decode cL_law 3205 = .ok (.ireturn, 1) := dk_172 (dk_at dksL_law_127 0 rfl rfl)
theorem dL_law_3206 : decode cL_law 3206 = .ok (.iload 5, 2) := dk_21 5 (dk_at dksL_law_127 1 rfl rfl)
theorem dL_law_3208 : decode cL_law 3208 = .ok (.ifCond .ne 15, 3) := dk_154 0 15 (dk_at dksL_law_127 3 rfl rfl)
theorem dL_law_3211 : decode cL_law 3211 = .ok (.aload_n 3, 1) := dk_45 (dk_at dksL_law_127 6 rfl rfl)
theorem dL_law_3212 : decode cL_law 3212 = .ok (.iconst 0, 1) := dk_3 (dk_at dksL_law_127 7 rfl rfl)
theorem dL_law_3213 : decode cL_law 3213 = .ok (.laload, 1) := dk_47 (dk_at dksL_law_127 8 rfl rfl)
theorem dL_law_3214 : decode cL_law 3214 = .ok (.iload 6, 2) := dk_21 6 (dk_at dksL_law_127 9 rfl rfl)
theorem dL_law_3216 : decode cL_law 3216 = .ok (.i2l, 1) := dk_133 (dk_at dksL_law_127 11 rfl rfl)
theorem dL_law_3217 : decode cL_law 3217 = .ok (.lcmp, 1) := dk_148 (dk_at dksL_law_127 12 rfl rfl)
theorem dL_law_3218 : decode cL_law 3218 = .ok (.ifCond .eq 5, 3) := dk_153 0 5 (dk_at dksL_law_127 13 rfl rfl)
theorem dL_law_3221 : decode cL_law 3221 = .ok (.iconst 0, 1) := dk_3 (dk_at dksL_law_127 16 rfl rfl)
theorem dL_law_3222 : decode cL_law 3222 = .ok (.ireturn, 1) := dk_172 (dk_at dksL_law_127 17 rfl rfl)
theorem dL_law_3223 : decode cL_law 3223 = .ok (.goto 497, 3) := dk_167 1 241 (dk_at dksL_law_127 18 rfl rfl)
theorem dL_law_3226 : decode cL_law 3226 = .ok (.aload_n 1, 1) := dk_43 (dk_at dksL_law_127 21 rfl rfl)
theorem dL_law_3227 : decode cL_law 3227 = .ok (.invokevirtual 360, 3) := dk_182 1 104 (dk_at dksL_law_128 0 rfl rfl)
theorem dL_law_3230 : decode cL_law 3230 = .ok (.aload_n 2, 1) := dk_44 (dk_at dksL_law_128 3 rfl rfl)
theorem dL_law_3231 : decode cL_law 3231 = .ok (.invokevirtual 363, 3) := dk_182 1 107 (dk_at dksL_law_128 4 rfl rfl)
theorem dL_law_3234 : decode cL_law 3234 = .ok (.if_icmp .eq 486, 3) := dk_159 1 230 (dk_at dksL_law_128 7 rfl rfl)
theorem dL_law_3237 : decode cL_law 3237 = .ok (.iconst 0, 1) := dk_3 (dk_at dksL_law_128 10 rfl rfl)
theorem dL_law_3238 : decode cL_law 3238 = .ok (.ireturn, 1) := dk_172 (dk_at dksL_law_128 11 rfl rfl)
theorem dL_law_3239 : decode cL_law 3239 = .ok (.aload_n 1, 1) := dk_43 (dk_at dksL_law_128 12 rfl rfl)
theorem dL_law_3240 : decode cL_law 3240 = .ok (.aload_n 0, 1) := dk_42 (dk_at dksL_law_128 13 rfl rfl)
theorem dL_law_3241 : decode cL_law 3241 = .ok (.iload 4, 2) := dk_21 4 (dk_at dksL_law_128 14 rfl rfl)
theorem dL_law_3243 : decode cL_law 3243 = .ok (.iconst 1, 1) := dk_4 (dk_at dksL_law_128 16 rfl rfl)
theorem dL_law_3244 : decode cL_law 3244 = .ok (.iadd, 1) := dk_96 (dk_at dksL_law_128 17 rfl rfl)
theorem dL_law_3245 : decode cL_law 3245 = .ok (.iaload, 1) := dk_46 (dk_at dksL_law_128 18 rfl rfl)
theorem dL_law_3246 : decode cL_law 3246 = .ok (.aload_n 3, 1) := dk_45 (dk_at dksL_law_128 19 rfl rfl)
theorem dL_law_3247 : decode cL_law 3247 = .ok (.invokestatic 364, 3) := dk_184 1 108 (dk_at dksL_law_128 20 rfl rfl)
theorem dL_law_3250 : decode cL_law 3250 = .ok (.istore 5, 2) := dk_54 5 (dk_at dksL_law_129 0 rfl rfl)
theorem dL_law_3252 : decode cL_law 3252 = .ok (.aload_n 2, 1) := dk_44 (dk_at dksL_law_129 2 rfl rfl)
theorem dL_law_3253 : decode cL_law 3253 = .ok (.aload_n 0, 1) := dk_42 (dk_at dksL_law_129 3 rfl rfl)
theorem dL_law_3254 : decode cL_law 3254 = .ok (.iload 4, 2) := dk_21 4 (dk_at dksL_law_129 4 rfl rfl)
theorem dL_law_3256 : decode cL_law 3256 = .ok (.iconst 1, 1) := dk_4 (dk_at dksL_law_129 6 rfl rfl)
theorem dL_law_3257 : decode cL_law 3257 = .ok (.iadd, 1) := dk_96 (dk_at dksL_law_129 7 rfl rfl)
theorem dL_law_3258 : decode cL_law 3258 = .ok (.iaload, 1) := dk_46 (dk_at dksL_law_129 8 rfl rfl)
theorem dL_law_3259 : decode cL_law 3259 = .ok (.invokevirtual 366, 3) := dk_182 1 110 (dk_at dksL_law_129 9 rfl rfl)
theorem dL_law_3262 : decode cL_law 3262 = .ok (.istore 6, 2) := dk_54 6 (dk_at dksL_law_129 12 rfl rfl)
theorem dL_law_3264 : decode cL_law 3264 = .ok (.aload_n 2, 1) := dk_44 (dk_at dksL_law_129 14 rfl rfl)
theorem dL_law_3265 : decode cL_law 3265 = .ok (.invokevirtual 185, 3) := dk_182 0 185 (dk_at dksL_law_129 15 rfl rfl)
theorem dL_law_3268 : decode cL_law 3268 = .ok (.iload 5, 2) := dk_21 5 (dk_at dksL_law_129 18 rfl rfl)
theorem dL_law_3270 : decode cL_law 3270 = .ok (.if_icmp .eq 5, 3) := dk_159 0 5 (dk_at dksL_law_129 20 rfl rfl)
theorem dL_law_3273 : decode cL_law 3273 = .ok (.iconst 0, 1) := dk_3 (dk_at dksL_law_129 23 rfl rfl)
theorem dL_law_3274 : decode cL_law 3274 = .ok (.ireturn, 1) := dk_172 (dk_at dksL_law_130 0 rfl rfl)
theorem dL_law_3275 : decode cL_law 3275 = .ok (.iload 5, 2) := dk_21 5 (dk_at dksL_law_130 1 rfl rfl)
theorem dL_law_3277 : decode cL_law 3277 = .ok (.ifCond .ne 15, 3) := dk_154 0 15 (dk_at dksL_law_130 3 rfl rfl)
theorem dL_law_3280 : decode cL_law 3280 = .ok (.aload_n 3, 1) := dk_45 (dk_at dksL_law_130 6 rfl rfl)
theorem dL_law_3281 : decode cL_law 3281 = .ok (.iconst 0, 1) := dk_3 (dk_at dksL_law_130 7 rfl rfl)
theorem dL_law_3282 : decode cL_law 3282 = .ok (.laload, 1) := dk_47 (dk_at dksL_law_130 8 rfl rfl)
theorem dL_law_3283 : decode cL_law 3283 = .ok (.iload 6, 2) := dk_21 6 (dk_at dksL_law_130 9 rfl rfl)
theorem dL_law_3285 : decode cL_law 3285 = .ok (.i2l, 1) := dk_133 (dk_at dksL_law_130 11 rfl rfl)
theorem dL_law_3286 : decode cL_law 3286 = .ok (.lcmp, 1) := dk_148 (dk_at dksL_law_130 12 rfl rfl)
theorem dL_law_3287 : decode cL_law 3287 = .ok (.ifCond .eq 5, 3) := dk_153 0 5 (dk_at dksL_law_130 13 rfl rfl)
theorem dL_law_3290 : decode cL_law 3290 = .ok (.iconst 0, 1) := dk_3 (dk_at dksL_law_130 16 rfl rfl)
theorem dL_law_3291 : decode cL_law 3291 = .ok (.ireturn, 1) := dk_172 (dk_at dksL_law_130 17 rfl rfl)
theorem dL_law_3292 : decode cL_law 3292 = .ok (.goto 428, 3) := dk_167 1 172 (dk_at dksL_law_130 18 rfl rfl)
theorem dL_law_3295 : decode cL_law 3295 = .ok (.aload_n 1, 1) := dk_43 (dk_at dksL_law_130 21 rfl rfl)
theorem dL_law_3296 : decode cL_law 3296 = .ok (.aload_n 0, 1) := dk_42 (dk_at dksL_law_130 22 rfl rfl)
theorem dL_law_3297 : decode cL_law 3297 = .ok (.iload 4, 2) := dk_21 4 (dk_at dksL_law_131 0 rfl rfl)
theorem dL_law_3299 : decode cL_law 3299 = .ok (.iconst 1, 1) := dk_4 (dk_at dksL_law_131 2 rfl rfl)
theorem dL_law_3300 : decode cL_law 3300 = .ok (.iadd, 1) := dk_96 (dk_at dksL_law_131 3 rfl rfl)
theorem dL_law_3301 : decode cL_law 3301 = .ok (.iaload, 1) := dk_46 (dk_at dksL_law_131 4 rfl rfl)
theorem dL_law_3302 : decode cL_law 3302 = .ok (.aload_n 0, 1) := dk_42 (dk_at dksL_law_131 5 rfl rfl)
theorem dL_law_3303 : decode cL_law 3303 = .ok (.iload 4, 2) := dk_21 4 (dk_at dksL_law_131 6 rfl rfl)
theorem dL_law_3305 : decode cL_law 3305 = .ok (.iconst 2, 1) := dk_5 (dk_at dksL_law_131 8 rfl rfl)
theorem dL_law_3306 : decode cL_law 3306 = .ok (.iadd, 1) := dk_96 (dk_at dksL_law_131 9 rfl rfl)
theorem dL_law_3307 : decode cL_law 3307 = .ok (.iaload, 1) := dk_46 (dk_at dksL_law_131 10 rfl rfl)
theorem dL_law_3308 : decode cL_law 3308 = .ok (.aload_n 3, 1) := dk_45 (dk_at dksL_law_131 11 rfl rfl)
theorem dL_law_3309 : decode cL_law 3309 = .ok (.invokestatic 367, 3) := dk_184 1 111 (dk_at dksL_law_131 12 rfl rfl)
theorem dL_law_3312 : decode cL_law 3312 = .ok (.istore 5, 2) := dk_54 5 (dk_at dksL_law_131 15 rfl rfl)
theorem dL_law_3314 : decode cL_law 3314 = .ok (.aload_n 2, 1) := dk_44 (dk_at dksL_law_131 17 rfl rfl)
theorem dL_law_3315 : decode cL_law 3315 = .ok (.aload_n 0, 1) := dk_42 (dk_at dksL_law_131 18 rfl rfl)
theorem dL_law_3316 : decode cL_law 3316 = .ok (.iload 4, 2) := dk_21 4 (dk_at dksL_law_131 19 rfl rfl)
theorem dL_law_3318 : decode cL_law 3318 = .ok (.iconst 1, 1) := dk_4 (dk_at dksL_law_131 21 rfl rfl)
theorem dL_law_3319 : decode cL_law 3319 = .ok (.iadd, 1) := dk_96 (dk_at dksL_law_131 22 rfl rfl)
theorem dL_law_3320 : decode cL_law 3320 = .ok (.iaload, 1) := dk_46 (dk_at dksL_law_131 23 rfl rfl)
theorem dL_law_3321 : decode cL_law 3321 = .ok (.aload_n 0, 1) := dk_42 (dk_at dksL_law_132 0 rfl rfl)
theorem dL_law_3322 : decode cL_law 3322 = .ok (.iload 4, 2) := dk_21 4 (dk_at dksL_law_132 1 rfl rfl)
theorem dL_law_3324 : decode cL_law 3324 = .ok (.iconst 2, 1) := dk_5 (dk_at dksL_law_132 3 rfl rfl)
theorem dL_law_3325 : decode cL_law 3325 = .ok (.iadd, 1) := dk_96 (dk_at dksL_law_132 4 rfl rfl)
theorem dL_law_3326 : decode cL_law 3326 = .ok (.iaload, 1) := dk_46 (dk_at dksL_law_132 5 rfl rfl)
theorem dL_law_3327 : decode cL_law 3327 = .ok (.invokevirtual 369, 3) := dk_182 1 113 (dk_at dksL_law_132 6 rfl rfl)
theorem dL_law_3330 : decode cL_law 3330 = .ok (.istore 6, 2) := dk_54 6 (dk_at dksL_law_132 9 rfl rfl)
theorem dL_law_3332 : decode cL_law 3332 = .ok (.aload_n 2, 1) := dk_44 (dk_at dksL_law_132 11 rfl rfl)
theorem dL_law_3333 : decode cL_law 3333 = .ok (.invokevirtual 185, 3) := dk_182 0 185 (dk_at dksL_law_132 12 rfl rfl)
theorem dL_law_3336 : decode cL_law 3336 = .ok (.iload 5, 2) := dk_21 5 (dk_at dksL_law_132 15 rfl rfl)
theorem dL_law_3338 : decode cL_law 3338 = .ok (.if_icmp .eq 5, 3) := dk_159 0 5 (dk_at dksL_law_132 17 rfl rfl)
theorem dL_law_3341 : decode cL_law 3341 = .ok (.iconst 0, 1) := dk_3 (dk_at dksL_law_132 20 rfl rfl)
theorem dL_law_3342 : decode cL_law 3342 = .ok (.ireturn, 1) := dk_172 (dk_at dksL_law_132 21 rfl rfl)
theorem dL_law_3343 : decode cL_law 3343 = .ok (.iload 5, 2) := dk_21 5 (dk_at dksL_law_132 22 rfl rfl)
theorem dL_law_3345 : decode cL_law 3345 = .ok (.ifCond .ne 15, 3) := dk_154 0 15 (dk_at dksL_law_133 0 rfl rfl)
theorem dL_law_3348 : decode cL_law 3348 = .ok (.aload_n 3, 1) := dk_45 (dk_at dksL_law_133 3 rfl rfl)
theorem dL_law_3349 : decode cL_law 3349 = .ok (.iconst 0, 1) := dk_3 (dk_at dksL_law_133 4 rfl rfl)
theorem dL_law_3350 : decode cL_law 3350 = .ok (.laload, 1) := dk_47 (dk_at dksL_law_133 5 rfl rfl)
theorem dL_law_3351 : decode cL_law 3351 = .ok (.iload 6, 2) := dk_21 6 (dk_at dksL_law_133 6 rfl rfl)
theorem dL_law_3353 : decode cL_law 3353 = .ok (.i2l, 1) := dk_133 (dk_at dksL_law_133 8 rfl rfl)
theorem dL_law_3354 : decode cL_law 3354 = .ok (.lcmp, 1) := dk_148 (dk_at dksL_law_133 9 rfl rfl)
theorem dL_law_3355 : decode cL_law 3355 = .ok (.ifCond .eq 5, 3) := dk_153 0 5 (dk_at dksL_law_133 10 rfl rfl)
theorem dL_law_3358 : decode cL_law 3358 = .ok (.iconst 0, 1) := dk_3 (dk_at dksL_law_133 13 rfl rfl)
theorem dL_law_3359 : decode cL_law 3359 = .ok (.ireturn, 1) := dk_172 (dk_at dksL_law_133 14 rfl rfl)
theorem dL_law_3360 : decode cL_law 3360 = .ok (.goto 360, 3) := dk_167 1 104 (dk_at dksL_law_133 15 rfl rfl)
theorem dL_law_3363 : decode cL_law 3363 = .ok (.aload_n 1, 1) := dk_43 (dk_at dksL_law_133 18 rfl rfl)
theorem dL_law_3364 : decode cL_law 3364 = .ok (.aload_n 0, 1) := dk_42 (dk_at dksL_law_133 19 rfl rfl)
theorem dL_law_3365 : decode cL_law 3365 = .ok (.iload 4, 2) := dk_21 4 (dk_at dksL_law_133 20 rfl rfl)
theorem dL_law_3367 : decode cL_law 3367 = .ok (.iconst 1, 1) := dk_4 (dk_at dksL_law_133 22 rfl rfl)
theorem dL_law_3368 : decode cL_law 3368 = .ok (.iadd, 1) := dk_96 (dk_at dksL_law_133 23 rfl rfl)
theorem dL_law_3369 : decode cL_law 3369 = .ok (.iaload, 1) := dk_46 (dk_at dksL_law_134 0 rfl rfl)
theorem dL_law_3370 : decode cL_law 3370 = .ok (.aload_n 3, 1) := dk_45 (dk_at dksL_law_134 1 rfl rfl)
theorem dL_law_3371 : decode cL_law 3371 = .ok (.invokestatic 370, 3) := dk_184 1 114 (dk_at dksL_law_134 2 rfl rfl)
theorem dL_law_3374 : decode cL_law 3374 = .ok (.istore 5, 2) := dk_54 5 (dk_at dksL_law_134 5 rfl rfl)
theorem dL_law_3376 : decode cL_law 3376 = .ok (.aload_n 2, 1) := dk_44 (dk_at dksL_law_134 7 rfl rfl)
theorem dL_law_3377 : decode cL_law 3377 = .ok (.aload_n 0, 1) := dk_42 (dk_at dksL_law_134 8 rfl rfl)
theorem dL_law_3378 : decode cL_law 3378 = .ok (.iload 4, 2) := dk_21 4 (dk_at dksL_law_134 9 rfl rfl)
theorem dL_law_3380 : decode cL_law 3380 = .ok (.iconst 1, 1) := dk_4 (dk_at dksL_law_134 11 rfl rfl)
theorem dL_law_3381 : decode cL_law 3381 = .ok (.iadd, 1) := dk_96 (dk_at dksL_law_134 12 rfl rfl)
theorem dL_law_3382 : decode cL_law 3382 = .ok (.iaload, 1) := dk_46 (dk_at dksL_law_134 13 rfl rfl)
theorem dL_law_3383 : decode cL_law 3383 = .ok (.invokevirtual 372, 3) := dk_182 1 116 (dk_at dksL_law_134 14 rfl rfl)
theorem dL_law_3386 : decode cL_law 3386 = .ok (.istore 6, 2) := dk_54 6 (dk_at dksL_law_134 17 rfl rfl)
theorem dL_law_3388 : decode cL_law 3388 = .ok (.aload_n 2, 1) := dk_44 (dk_at dksL_law_134 19 rfl rfl)
theorem dL_law_3389 : decode cL_law 3389 = .ok (.invokevirtual 185, 3) := dk_182 0 185 (dk_at dksL_law_134 20 rfl rfl)
theorem dL_law_3392 : decode cL_law 3392 = .ok (.iload 5, 2) := dk_21 5 (dk_at dksL_law_135 0 rfl rfl)
theorem dL_law_3394 : decode cL_law 3394 = .ok (.if_icmp .eq 5, 3) := dk_159 0 5 (dk_at dksL_law_135 2 rfl rfl)
theorem dL_law_3397 : decode cL_law 3397 = .ok (.iconst 0, 1) := dk_3 (dk_at dksL_law_135 5 rfl rfl)
theorem dL_law_3398 : decode cL_law 3398 = .ok (.ireturn, 1) := dk_172 (dk_at dksL_law_135 6 rfl rfl)
theorem dL_law_3399 : decode cL_law 3399 = .ok (.iload 5, 2) := dk_21 5 (dk_at dksL_law_135 7 rfl rfl)
theorem dL_law_3401 : decode cL_law 3401 = .ok (.ifCond .ne 15, 3) := dk_154 0 15 (dk_at dksL_law_135 9 rfl rfl)
theorem dL_law_3404 : decode cL_law 3404 = .ok (.aload_n 3, 1) := dk_45 (dk_at dksL_law_135 12 rfl rfl)
theorem dL_law_3405 : decode cL_law 3405 = .ok (.iconst 0, 1) := dk_3 (dk_at dksL_law_135 13 rfl rfl)
theorem dL_law_3406 : decode cL_law 3406 = .ok (.laload, 1) := dk_47 (dk_at dksL_law_135 14 rfl rfl)
theorem dL_law_3407 : decode cL_law 3407 = .ok (.iload 6, 2) := dk_21 6 (dk_at dksL_law_135 15 rfl rfl)
theorem dL_law_3409 : decode cL_law 3409 = .ok (.i2l, 1) := dk_133 (dk_at dksL_law_135 17 rfl rfl)
theorem dL_law_3410 : decode cL_law 3410 = .ok (.lcmp, 1) := dk_148 (dk_at dksL_law_135 18 rfl rfl)
theorem dL_law_3411 : decode cL_law 3411 = .ok (.ifCond .eq 5, 3) := dk_153 0 5 (dk_at dksL_law_135 19 rfl rfl)
theorem dL_law_3414 : decode cL_law 3414 = .ok (.iconst 0, 1) := dk_3 (dk_at dksL_law_135 22 rfl rfl)
theorem dL_law_3415 : decode cL_law 3415 = .ok (.ireturn, 1) := dk_172 (dk_at dksL_law_135 23 rfl rfl)
theorem dL_law_3416 : decode cL_law 3416 = .ok (.goto 304, 3) := dk_167 1 48 (dk_at dksL_law_136 0 rfl rfl)
theorem dL_law_3419 : decode cL_law 3419 = .ok (.aload_n 1, 1) := dk_43 (dk_at dksL_law_136 3 rfl rfl)
theorem dL_law_3420 : decode cL_law 3420 = .ok (.aload_n 3, 1) := dk_45 (dk_at dksL_law_136 4 rfl rfl)
theorem dL_law_3421 : decode cL_law 3421 = .ok (.invokestatic 373, 3) := dk_184 1 117 (dk_at dksL_law_136 5 rfl rfl)
theorem dL_law_3424 : decode cL_law 3424 = .ok (.istore 5, 2) := dk_54 5 (dk_at dksL_law_136 8 rfl rfl)
theorem dL_law_3426 : decode cL_law 3426 = .ok (.aload_n 2, 1) := dk_44 (dk_at dksL_law_136 10 rfl rfl)
theorem dL_law_3427 : decode cL_law 3427 = .ok (.invokevirtual 376, 3) := dk_182 1 120 (dk_at dksL_law_136 11 rfl rfl)
theorem dL_law_3430 : decode cL_law 3430 = .ok (.istore 6, 2) := dk_54 6 (dk_at dksL_law_136 14 rfl rfl)
theorem dL_law_3432 : decode cL_law 3432 = .ok (.aload_n 2, 1) := dk_44 (dk_at dksL_law_136 16 rfl rfl)
theorem dL_law_3433 : decode cL_law 3433 = .ok (.invokevirtual 185, 3) := dk_182 0 185 (dk_at dksL_law_136 17 rfl rfl)
theorem dL_law_3436 : decode cL_law 3436 = .ok (.iload 5, 2) := dk_21 5 (dk_at dksL_law_136 20 rfl rfl)
theorem dL_law_3438 : decode cL_law 3438 = .ok (.if_icmp .eq 5, 3) := dk_159 0 5 (dk_at dksL_law_137 0 rfl rfl)
theorem dL_law_3441 : decode cL_law 3441 = .ok (.iconst 0, 1) := dk_3 (dk_at dksL_law_137 3 rfl rfl)
theorem dL_law_3442 : decode cL_law 3442 = .ok (.ireturn, 1) := dk_172 (dk_at dksL_law_137 4 rfl rfl)
theorem dL_law_3443 : decode cL_law 3443 = .ok (.iload 5, 2) := dk_21 5 (dk_at dksL_law_137 5 rfl rfl)
theorem dL_law_3445 : decode cL_law 3445 = .ok (.ifCond .ne 15, 3) := dk_154 0 15 (dk_at dksL_law_137 7 rfl rfl)
theorem dL_law_3448 : decode cL_law 3448 = .ok (.aload_n 3, 1) := dk_45 (dk_at dksL_law_137 10 rfl rfl)
theorem dL_law_3449 : decode cL_law 3449 = .ok (.iconst 0, 1) := dk_3 (dk_at dksL_law_137 11 rfl rfl)
theorem dL_law_3450 : decode cL_law 3450 = .ok (.laload, 1) := dk_47 (dk_at dksL_law_137 12 rfl rfl)
theorem dL_law_3451 : decode cL_law 3451 = .ok (.iload 6, 2) := dk_21 6 (dk_at dksL_law_137 13 rfl rfl)
theorem dL_law_3453 : decode cL_law 3453 = .ok (.i2l, 1) := dk_133 (dk_at dksL_law_137 15 rfl rfl)
theorem dL_law_3454 : decode cL_law 3454 = .ok (.lcmp, 1) := dk_148 (dk_at dksL_law_137 16 rfl rfl)
theorem dL_law_3455 : decode cL_law 3455 = .ok (.ifCond .eq 5, 3) := dk_153 0 5 (dk_at dksL_law_137 17 rfl rfl)
theorem dL_law_3458 : decode cL_law 3458 = .ok (.iconst 0, 1) := dk_3 (dk_at dksL_law_137 20 rfl rfl)
theorem dL_law_3459 : decode cL_law 3459 = .ok (.ireturn, 1) := dk_172 (dk_at dksL_law_137 21 rfl rfl)
theorem dL_law_3460 : decode cL_law 3460 = .ok (.goto 260, 3) := dk_167 1 4 (dk_at dksL_law_138 0 rfl rfl)
theorem dL_law_3463 : decode cL_law 3463 = .ok (.aload_n 1, 1) := dk_43 (dk_at dksL_law_138 3 rfl rfl)
theorem dL_law_3464 : decode cL_law 3464 = .ok (.aload_n 3, 1) := dk_45 (dk_at dksL_law_138 4 rfl rfl)
theorem dL_law_3465 : decode cL_law 3465 = .ok (.invokestatic 377, 3) := dk_184 1 121 (dk_at dksL_law_138 5 rfl rfl)
theorem dL_law_3468 : decode cL_law 3468 = .ok (.istore 5, 2) := dk_54 5 (dk_at dksL_law_138 8 rfl rfl)
theorem dL_law_3470 : decode cL_law 3470 = .ok (.aload_n 2, 1) := dk_44 (dk_at dksL_law_138 10 rfl rfl)
theorem dL_law_3471 : decode cL_law 3471 = .ok (.invokevirtual 379, 3) := dk_182 1 123 (dk_at dksL_law_138 11 rfl rfl)
theorem dL_law_3474 : decode cL_law 3474 = .ok (.istore 6, 2) := dk_54 6 (dk_at dksL_law_138 14 rfl rfl)
theorem dL_law_3476 : decode cL_law 3476 = .ok (.aload_n 2, 1) := dk_44 (dk_at dksL_law_138 16 rfl rfl)
theorem dL_law_3477 : decode cL_law 3477 = .ok (.invokevirtual 185, 3) := dk_182 0 185 (dk_at dksL_law_138 17 rfl rfl)
theorem dL_law_3480 : decode cL_law 3480 = .ok (.iload 5, 2) := dk_21 5 (dk_at dksL_law_138 20 rfl rfl)
theorem dL_law_3482 : decode cL_law 3482 = .ok (.if_icmp .eq 5, 3) := dk_159 0 5 (dk_at dksL_law_139 0 rfl rfl)
theorem dL_law_3485 : decode cL_law 3485 = .ok (.iconst 0, 1) := dk_3 (dk_at dksL_law_139 3 rfl rfl)
theorem dL_law_3486 : decode cL_law 3486 = .ok (.ireturn, 1) := dk_172 (dk_at dksL_law_139 4 rfl rfl)
theorem dL_law_3487 : decode cL_law 3487 = .ok (.iload 5, 2) := dk_21 5 (dk_at dksL_law_139 5 rfl rfl)
theorem dL_law_3489 : decode cL_law 3489 = .ok (.ifCond .ne 15, 3) := dk_154 0 15 (dk_at dksL_law_139 7 rfl rfl)
theorem dL_law_3492 : decode cL_law 3492 = .ok (.aload_n 3, 1) := dk_45 (dk_at dksL_law_139 10 rfl rfl)
theorem dL_law_3493 : decode cL_law 3493 = .ok (.iconst 0, 1) := dk_3 (dk_at dksL_law_139 11 rfl rfl)
theorem dL_law_3494 : decode cL_law 3494 = .ok (.laload, 1) := dk_47 (dk_at dksL_law_139 12 rfl rfl)
theorem dL_law_3495 : decode cL_law 3495 = .ok (.iload 6, 2) := dk_21 6 (dk_at dksL_law_139 13 rfl rfl)
theorem dL_law_3497 : decode cL_law 3497 = .ok (.i2l, 1) := dk_133 (dk_at dksL_law_139 15 rfl rfl)
theorem dL_law_3498 : decode cL_law 3498 = .ok (.lcmp, 1) := dk_148 (dk_at dksL_law_139 16 rfl rfl)
theorem dL_law_3499 : decode cL_law 3499 = .ok (.ifCond .eq 5, 3) := dk_153 0 5 (dk_at dksL_law_139 17 rfl rfl)
theorem dL_law_3502 : decode cL_law 3502 = .ok (.iconst 0, 1) := dk_3 (dk_at dksL_law_139 20 rfl rfl)
theorem dL_law_3503 : decode cL_law 3503 = .ok (.ireturn, 1) := dk_172 (dk_at dksL_law_139 21 rfl rfl)
theorem dL_law_3504 : decode cL_law 3504 = .ok (.goto 216, 3) := dk_167 0 216 (dk_at dksL_law_140 0 rfl rfl)
theorem dL_law_3507 : decode cL_law 3507 = .ok (.aload_n 1, 1) := dk_43 (dk_at dksL_law_140 3 rfl rfl)
theorem dL_law_3508 : decode cL_law 3508 = .ok (.aload_n 3, 1) := dk_45 (dk_at dksL_law_140 4 rfl rfl)
theorem dL_law_3509 : decode cL_law 3509 = .ok (.invokestatic 380, 3) := dk_184 1 124 (dk_at dksL_law_140 5 rfl rfl)
theorem dL_law_3512 : decode cL_law 3512 = .ok (.istore 5, 2) := dk_54 5 (dk_at dksL_law_140 8 rfl rfl)
theorem dL_law_3514 : decode cL_law 3514 = .ok (.aload_n 2, 1) := dk_44 (dk_at dksL_law_140 10 rfl rfl)
theorem dL_law_3515 : decode cL_law 3515 = .ok (.invokevirtual 382, 3) := dk_182 1 126 (dk_at dksL_law_140 11 rfl rfl)
theorem dL_law_3518 : decode cL_law 3518 = .ok (.istore 6, 2) := dk_54 6 (dk_at dksL_law_140 14 rfl rfl)
theorem dL_law_3520 : decode cL_law 3520 = .ok (.aload_n 2, 1) := dk_44 (dk_at dksL_law_140 16 rfl rfl)
theorem dL_law_3521 : decode cL_law 3521 = .ok (.invokevirtual 185, 3) := dk_182 0 185 (dk_at dksL_law_140 17 rfl rfl)
theorem dL_law_3524 : decode cL_law 3524 = .ok (.iload 5, 2) := dk_21 5 (dk_at dksL_law_140 20 rfl rfl)
theorem dL_law_3526 : decode cL_law 3526 = .ok (.if_icmp .eq 5, 3) := dk_159 0 5 (dk_at dksL_law_141 0 rfl rfl)
theorem dL_law_3529 : decode cL_law 3529 = .ok (.iconst 0, 1) := dk_3 (dk_at dksL_law_141 3 rfl rfl)
theorem dL_law_3530 : decode cL_law 3530 = .ok (.ireturn, 1) := dk_172 (dk_at dksL_law_141 4 rfl rfl)
theorem dL_law_3531 : decode cL_law 3531 = .ok (.iload 5, 2) := dk_21 5 (dk_at dksL_law_141 5 rfl rfl)
theorem dL_law_3533 : decode cL_law 3533 = .ok (.ifCond .ne 15, 3) := dk_154 0 15 (dk_at dksL_law_141 7 rfl rfl)
theorem dL_law_3536 : decode cL_law 3536 = .ok (.aload_n 3, 1) := dk_45 (dk_at dksL_law_141 10 rfl rfl)
theorem dL_law_3537 : decode cL_law 3537 = .ok (.iconst 0, 1) := dk_3 (dk_at dksL_law_141 11 rfl rfl)
theorem dL_law_3538 : decode cL_law 3538 = .ok (.laload, 1) := dk_47 (dk_at dksL_law_141 12 rfl rfl)
theorem dL_law_3539 : decode cL_law 3539 = .ok (.iload 6, 2) := dk_21 6 (dk_at dksL_law_141 13 rfl rfl)
theorem dL_law_3541 : decode cL_law 3541 = .ok (.i2l, 1) := dk_133 (dk_at dksL_law_141 15 rfl rfl)
theorem dL_law_3542 : decode cL_law 3542 = .ok (.lcmp, 1) := dk_148 (dk_at dksL_law_141 16 rfl rfl)
theorem dL_law_3543 : decode cL_law 3543 = .ok (.ifCond .eq 5, 3) := dk_153 0 5 (dk_at dksL_law_141 17 rfl rfl)
theorem dL_law_3546 : decode cL_law 3546 = .ok (.iconst 0, 1) := dk_3 (dk_at dksL_law_141 20 rfl rfl)
theorem dL_law_3547 : decode cL_law 3547 = .ok (.ireturn, 1) := dk_172 (dk_at dksL_law_141 21 rfl rfl)
theorem dL_law_3548 : decode cL_law 3548 = .ok (.goto 172, 3) := dk_167 0 172 (dk_at dksL_law_142 0 rfl rfl)
theorem dL_law_3551 : decode cL_law 3551 = .ok (.aload_n 1, 1) := dk_43 (dk_at dksL_law_142 3 rfl rfl)
theorem dL_law_3552 : decode cL_law 3552 = .ok (.aload_n 3, 1) := dk_45 (dk_at dksL_law_142 4 rfl rfl)
theorem dL_law_3553 : decode cL_law 3553 = .ok (.invokestatic 383, 3) := dk_184 1 127 (dk_at dksL_law_142 5 rfl rfl)
theorem dL_law_3556 : decode cL_law 3556 = .ok (.istore 5, 2) := dk_54 5 (dk_at dksL_law_142 8 rfl rfl)
theorem dL_law_3558 : decode cL_law 3558 = .ok (.aload_n 2, 1) := dk_44 (dk_at dksL_law_142 10 rfl rfl)
theorem dL_law_3559 : decode cL_law 3559 = .ok (.invokevirtual 385, 3) := dk_182 1 129 (dk_at dksL_law_142 11 rfl rfl)
theorem dL_law_3562 : decode cL_law 3562 = .ok (.istore 6, 2) := dk_54 6 (dk_at dksL_law_142 14 rfl rfl)
theorem dL_law_3564 : decode cL_law 3564 = .ok (.aload_n 2, 1) := dk_44 (dk_at dksL_law_142 16 rfl rfl)
theorem dL_law_3565 : decode cL_law 3565 = .ok (.invokevirtual 185, 3) := dk_182 0 185 (dk_at dksL_law_142 17 rfl rfl)
theorem dL_law_3568 : decode cL_law 3568 = .ok (.iload 5, 2) := dk_21 5 (dk_at dksL_law_142 20 rfl rfl)
theorem dL_law_3570 : decode cL_law 3570 = .ok (.if_icmp .eq 5, 3) := dk_159 0 5 (dk_at dksL_law_143 0 rfl rfl)
theorem dL_law_3573 : decode cL_law 3573 = .ok (.iconst 0, 1) := dk_3 (dk_at dksL_law_143 3 rfl rfl)
theorem dL_law_3574 : decode cL_law 3574 = .ok (.ireturn, 1) := dk_172 (dk_at dksL_law_143 4 rfl rfl)
theorem dL_law_3575 : decode cL_law 3575 = .ok (.iload 5, 2) := dk_21 5 (dk_at dksL_law_143 5 rfl rfl)
theorem dL_law_3577 : decode cL_law 3577 = .ok (.ifCond .ne 15, 3) := dk_154 0 15 (dk_at dksL_law_143 7 rfl rfl)
theorem dL_law_3580 : decode cL_law 3580 = .ok (.aload_n 3, 1) := dk_45 (dk_at dksL_law_143 10 rfl rfl)
theorem dL_law_3581 : decode cL_law 3581 = .ok (.iconst 0, 1) := dk_3 (dk_at dksL_law_143 11 rfl rfl)
theorem dL_law_3582 : decode cL_law 3582 = .ok (.laload, 1) := dk_47 (dk_at dksL_law_143 12 rfl rfl)
theorem dL_law_3583 : decode cL_law 3583 = .ok (.iload 6, 2) := dk_21 6 (dk_at dksL_law_143 13 rfl rfl)
theorem dL_law_3585 : decode cL_law 3585 = .ok (.i2l, 1) := dk_133 (dk_at dksL_law_143 15 rfl rfl)
theorem dL_law_3586 : decode cL_law 3586 = .ok (.lcmp, 1) := dk_148 (dk_at dksL_law_143 16 rfl rfl)
theorem dL_law_3587 : decode cL_law 3587 = .ok (.ifCond .eq 5, 3) := dk_153 0 5 (dk_at dksL_law_143 17 rfl rfl)
theorem dL_law_3590 : decode cL_law 3590 = .ok (.iconst 0, 1) := dk_3 (dk_at dksL_law_143 20 rfl rfl)
theorem dL_law_3591 : decode cL_law 3591 = .ok (.ireturn, 1) := dk_172 (dk_at dksL_law_143 21 rfl rfl)
theorem dL_law_3592 : decode cL_law 3592 = .ok (.goto 128, 3) := dk_167 0 128 (dk_at dksL_law_144 0 rfl rfl)
theorem dL_law_3595 : decode cL_law 3595 = .ok (.aload_n 1, 1) := dk_43 (dk_at dksL_law_144 3 rfl rfl)
theorem dL_law_3596 : decode cL_law 3596 = .ok (.invokevirtual 386, 3) := dk_182 1 130 (dk_at dksL_law_144 4 rfl rfl)
theorem dL_law_3599 : decode cL_law 3599 = .ok (.aload_n 2, 1) := dk_44 (dk_at dksL_law_144 7 rfl rfl)
theorem dL_law_3600 : decode cL_law 3600 = .ok (.invokevirtual 389, 3) := dk_182 1 133 (dk_at dksL_law_144 8 rfl rfl)
theorem dL_law_3603 : decode cL_law 3603 = .ok (.if_icmp .eq 117, 3) := dk_159 0 117 (dk_at dksL_law_144 11 rfl rfl)
theorem dL_law_3606 : decode cL_law 3606 = .ok (.iconst 0, 1) := dk_3 (dk_at dksL_law_144 14 rfl rfl)
theorem dL_law_3607 : decode cL_law 3607 = .ok (.ireturn, 1) := dk_172 (dk_at dksL_law_144 15 rfl rfl)
theorem dL_law_3608 : decode cL_law 3608 = .ok (.aload_n 1, 1) := dk_43 (dk_at dksL_law_144 16 rfl rfl)
theorem dL_law_3609 : decode cL_law 3609 = .ok (.aload_n 0, 1) := dk_42 (dk_at dksL_law_144 17 rfl rfl)
theorem dL_law_3610 : decode cL_law 3610 = .ok (.iload 4, 2) := dk_21 4 (dk_at dksL_law_144 18 rfl rfl)
theorem dL_law_3612 : decode cL_law 3612 = .ok (.iconst 1, 1) := dk_4 (dk_at dksL_law_144 20 rfl rfl)
theorem dL_law_3613 : decode cL_law 3613 = .ok (.iadd, 1) := dk_96 (dk_at dksL_law_144 21 rfl rfl)
theorem dL_law_3614 : decode cL_law 3614 = .ok (.iaload, 1) := dk_46 (dk_at dksL_law_144 22 rfl rfl)
theorem dL_law_3615 : decode cL_law 3615 = .ok (.aload_n 3, 1) := dk_45 (dk_at dksL_law_144 23 rfl rfl)
theorem dL_law_3616 : decode cL_law 3616 = .ok (.invokestatic 390, 3) := dk_184 1 134 (dk_at dksL_law_145 0 rfl rfl)
theorem dL_law_3619 : decode cL_law 3619 = .ok (.istore 5, 2) := dk_54 5 (dk_at dksL_law_145 3 rfl rfl)
theorem dL_law_3621 : decode cL_law 3621 = .ok (.aload_n 2, 1) := dk_44 (dk_at dksL_law_145 5 rfl rfl)
theorem dL_law_3622 : decode cL_law 3622 = .ok (.aload_n 0, 1) := dk_42 (dk_at dksL_law_145 6 rfl rfl)
theorem dL_law_3623 : decode cL_law 3623 = .ok (.iload 4, 2) := dk_21 4 (dk_at dksL_law_145 7 rfl rfl)
theorem dL_law_3625 : decode cL_law 3625 = .ok (.iconst 1, 1) := dk_4 (dk_at dksL_law_145 9 rfl rfl)
theorem dL_law_3626 : decode cL_law 3626 = .ok (.iadd, 1) := dk_96 (dk_at dksL_law_145 10 rfl rfl)
theorem dL_law_3627 : decode cL_law 3627 = .ok (.iaload, 1) := dk_46 (dk_at dksL_law_145 11 rfl rfl)
theorem dL_law_3628 : decode cL_law 3628 = .ok (.invokevirtual 392, 3) := dk_182 1 136 (dk_at dksL_law_145 12 rfl rfl)
theorem dL_law_3631 : decode cL_law 3631 = .ok (.istore 6, 2) := dk_54 6 (dk_at dksL_law_145 15 rfl rfl)
theorem dL_law_3633 : decode cL_law 3633 = .ok (.aload_n 2, 1) := dk_44 (dk_at dksL_law_145 17 rfl rfl)
theorem dL_law_3634 : decode cL_law 3634 = .ok (.invokevirtual 185, 3) := dk_182 0 185 (dk_at dksL_law_145 18 rfl rfl)
theorem dL_law_3637 : decode cL_law 3637 = .ok (.iload 5, 2) := dk_21 5 (dk_at dksL_law_145 21 rfl rfl)
theorem dL_law_3639 : decode cL_law 3639 = .ok (.if_icmp .eq 5, 3) := dk_159 0 5 (dk_at dksL_law_146 0 rfl rfl)
theorem dL_law_3642 : decode cL_law 3642 = .ok (.iconst 0, 1) := dk_3 (dk_at dksL_law_146 3 rfl rfl)
theorem dL_law_3643 : decode cL_law 3643 = .ok (.ireturn, 1) := dk_172 (dk_at dksL_law_146 4 rfl rfl)
theorem dL_law_3644 : decode cL_law 3644 = .ok (.iload 5, 2) := dk_21 5 (dk_at dksL_law_146 5 rfl rfl)
theorem dL_law_3646 : decode cL_law 3646 = .ok (.ifCond .ne 15, 3) := dk_154 0 15 (dk_at dksL_law_146 7 rfl rfl)
theorem dL_law_3649 : decode cL_law 3649 = .ok (.aload_n 3, 1) := dk_45 (dk_at dksL_law_146 10 rfl rfl)
theorem dL_law_3650 : decode cL_law 3650 = .ok (.iconst 0, 1) := dk_3 (dk_at dksL_law_146 11 rfl rfl)
theorem dL_law_3651 : decode cL_law 3651 = .ok (.laload, 1) := dk_47 (dk_at dksL_law_146 12 rfl rfl)
theorem dL_law_3652 : decode cL_law 3652 = .ok (.iload 6, 2) := dk_21 6 (dk_at dksL_law_146 13 rfl rfl)
theorem dL_law_3654 : decode cL_law 3654 = .ok (.i2l, 1) := dk_133 (dk_at dksL_law_146 15 rfl rfl)
theorem dL_law_3655 : decode cL_law 3655 = .ok (.lcmp, 1) := dk_148 (dk_at dksL_law_146 16 rfl rfl)
theorem dL_law_3656 : decode cL_law 3656 = .ok (.ifCond .eq 5, 3) := dk_153 0 5 (dk_at dksL_law_146 17 rfl rfl)
theorem dL_law_3659 : decode cL_law 3659 = .ok (.iconst 0, 1) := dk_3 (dk_at dksL_law_146 20 rfl rfl)
theorem dL_law_3660 : decode cL_law 3660 = .ok (.ireturn, 1) := dk_172 (dk_at dksL_law_146 21 rfl rfl)
theorem dL_law_3661 : decode cL_law 3661 = .ok (.goto 59, 3) := dk_167 0 59 (dk_at dksL_law_147 0 rfl rfl)
theorem dL_law_3664 : decode cL_law 3664 = .ok (.aload_n 1, 1) := dk_43 (dk_at dksL_law_147 3 rfl rfl)
theorem dL_law_3665 : decode cL_law 3665 = .ok (.aload_n 0, 1) := dk_42 (dk_at dksL_law_147 4 rfl rfl)
theorem dL_law_3666 : decode cL_law 3666 = .ok (.iload 4, 2) := dk_21 4 (dk_at dksL_law_147 5 rfl rfl)
theorem dL_law_3668 : decode cL_law 3668 = .ok (.iconst 1, 1) := dk_4 (dk_at dksL_law_147 7 rfl rfl)
theorem dL_law_3669 : decode cL_law 3669 = .ok (.iadd, 1) := dk_96 (dk_at dksL_law_147 8 rfl rfl)
theorem dL_law_3670 : decode cL_law 3670 = .ok (.iaload, 1) := dk_46 (dk_at dksL_law_147 9 rfl rfl)
theorem dL_law_3671 : decode cL_law 3671 = .ok (.aload_n 3, 1) := dk_45 (dk_at dksL_law_147 10 rfl rfl)
theorem dL_law_3672 : decode cL_law 3672 = .ok (.invokestatic 393, 3) := dk_184 1 137 (dk_at dksL_law_147 11 rfl rfl)
theorem dL_law_3675 : decode cL_law 3675 = .ok (.istore 5, 2) := dk_54 5 (dk_at dksL_law_147 14 rfl rfl)
theorem dL_law_3677 : decode cL_law 3677 = .ok (.aload_n 2, 1) := dk_44 (dk_at dksL_law_147 16 rfl rfl)
theorem dL_law_3678 : decode cL_law 3678 = .ok (.aload_n 0, 1) := dk_42 (dk_at dksL_law_147 17 rfl rfl)
theorem dL_law_3679 : decode cL_law 3679 = .ok (.iload 4, 2) := dk_21 4 (dk_at dksL_law_147 18 rfl rfl)
theorem dL_law_3681 : decode cL_law 3681 = .ok (.iconst 1, 1) := dk_4 (dk_at dksL_law_147 20 rfl rfl)
theorem dL_law_3682 : decode cL_law 3682 = .ok (.iadd, 1) := dk_96 (dk_at dksL_law_147 21 rfl rfl)
theorem dL_law_3683 : decode cL_law 3683 = .ok (.iaload, 1) := dk_46 (dk_at dksL_law_147 22 rfl rfl)
theorem dL_law_3684 : decode cL_law 3684 = .ok (.invokevirtual 395, 3) := dk_182 1 139 (dk_at dksL_law_148 0 rfl rfl)
theorem dL_law_3687 : decode cL_law 3687 = .ok (.istore 6, 2) := dk_54 6 (dk_at dksL_law_148 3 rfl rfl)
theorem dL_law_3689 : decode cL_law 3689 = .ok (.aload_n 2, 1) := dk_44 (dk_at dksL_law_148 5 rfl rfl)
theorem dL_law_3690 : decode cL_law 3690 = .ok (.invokevirtual 185, 3) := dk_182 0 185 (dk_at dksL_law_148 6 rfl rfl)
theorem dL_law_3693 : decode cL_law 3693 = .ok (.iload 5, 2) := dk_21 5 (dk_at dksL_law_148 9 rfl rfl)
theorem dL_law_3695 : decode cL_law 3695 = .ok (.if_icmp .eq 5, 3) := dk_159 0 5 (dk_at dksL_law_148 11 rfl rfl)
theorem dL_law_3698 : decode cL_law 3698 = .ok (.iconst 0, 1) := dk_3 (dk_at dksL_law_148 14 rfl rfl)
theorem dL_law_3699 : decode cL_law 3699 = .ok (.ireturn, 1) := dk_172 (dk_at dksL_law_148 15 rfl rfl)
theorem dL_law_3700 : decode cL_law 3700 = .ok (.iload 5, 2) := dk_21 5 (dk_at dksL_law_148 16 rfl rfl)
theorem dL_law_3702 : decode cL_law 3702 = .ok (.ifCond .ne 15, 3) := dk_154 0 15 (dk_at dksL_law_148 18 rfl rfl)
theorem dL_law_3705 : decode cL_law 3705 = .ok (.aload_n 3, 1) := dk_45 (dk_at dksL_law_148 21 rfl rfl)
theorem dL_law_3706 : decode cL_law 3706 = .ok (.iconst 0, 1) := dk_3 (dk_at dksL_law_148 22 rfl rfl)
theorem dL_law_3707 : decode cL_law 3707 = .ok (.laload, 1) := dk_47 (dk_at dksL_law_148 23 rfl rfl)
theorem dL_law_3708 : decode cL_law 3708 = .ok (.iload 6, 2) := dk_21 6 (dk_at dksL_law_149 0 rfl rfl)
theorem dL_law_3710 : decode cL_law 3710 = .ok (.i2l, 1) := dk_133 (dk_at dksL_law_149 2 rfl rfl)
theorem dL_law_3711 : decode cL_law 3711 = .ok (.lcmp, 1) := dk_148 (dk_at dksL_law_149 3 rfl rfl)
theorem dL_law_3712 : decode cL_law 3712 = .ok (.ifCond .eq 5, 3) := dk_153 0 5 (dk_at dksL_law_149 4 rfl rfl)
theorem dL_law_3715 : decode cL_law 3715 = .ok (.iconst 0, 1) := dk_3 (dk_at dksL_law_149 7 rfl rfl)
theorem dL_law_3716 : decode cL_law 3716 = .ok (.ireturn, 1) := dk_172 (dk_at dksL_law_149 8 rfl rfl)
theorem dL_law_3717 : decode cL_law 3717 = .ok (.goto 3, 3) := dk_167 0 3 (dk_at dksL_law_149 9 rfl rfl)
theorem dL_law_3720 : decode cL_law 3720 = .ok (.iinc 4 6, 3) := dk_132 4 6 (dk_at dksL_law_149 12 rfl rfl)
theorem dL_law_3723 : decode cL_law 3723 = .ok (.goto (-3700), 3) := dk_167 241 140 (dk_at dksL_law_149 15 rfl rfl)
theorem dL_law_3726 : decode cL_law 3726 = .ok (.iconst 1, 1) := dk_4 (dk_at dksL_law_149 18 rfl rfl)
theorem dL_law_3727 : decode cL_law 3727 = .ok (.ireturn, 1) := dk_172 (dk_at dksL_law_149 19 rfl rfl)
theorem q2066 : (Jvm.Cond.interfaceMethod "FoldLister$Feature" "FoldLister$Feature" "isOf" "(I)Z") ∈ lw_tbl := lw_at lw_m9 43 rfl
set_option maxRecDepth 100000
theorem q2067 : (Jvm.Cond.declares ({ cls := "FoldLister$Feature", name := "isOf", desc := "(I)Z" } : Jvm.MethodName)) ∈ lw_tbl := lw_at lw_m9 44 rfl
theorem q1405 : (Jvm.Cond.interfaceMethod "FoldLister$Folds" "FoldLister$Folds" "isClosed" "(I)Z") ∈ lw_tbl := lw_at lw_m6 102 rfl
set_option maxRecDepth 100000
theorem q1406 : (Jvm.Cond.declares ({ cls := "FoldLister$Folds", name := "isClosed", desc := "(I)Z" } : Jvm.MethodName)) ∈ lw_tbl := lw_at lw_m6 103 rfl
theorem q513 : (Jvm.Cond.sameMethod "[B" "java/lang/Object" "clone" "()Ljava/lang/Object;") ∈ lw_all := lw_g (lw_at lw_m2 170 rfl) rfl
set_option maxRecDepth 100000
theorem q516 : (Jvm.Cond.selects "[B" ({ cls := "[B", name := "clone", desc := "()Ljava/lang/Object;" } : Jvm.MethodName) ({ cls := "java/lang/Object", name := "clone", desc := "()Ljava/lang/Object;" } : Jvm.MethodName)) ∈ lw_all := lw_g (lw_at lw_m2 173 rfl) rfl
theorem q517 : (Jvm.Cond.castable "[B" "java/lang/Cloneable") ∈ lw_tbl := lw_at lw_m2 174 rfl
theorem q3647 : (Jvm.Cond.castable "[B" "java/lang/Object") ∈ lw_tbl := lw_at lw_m15 184 rfl
theorem q3648 : (Jvm.Cond.castable "[I" "java/lang/Object") ∈ lw_tbl := lw_at lw_m15 185 rfl
set_option maxRecDepth 100000
theorem q1472 : (Jvm.Cond.sameMethod "[J" "java/lang/Object" "clone" "()Ljava/lang/Object;") ∈ lw_all := lw_g (lw_at lw_m6 169 rfl) rfl
set_option maxRecDepth 100000
theorem q1473 : (Jvm.Cond.selects "[J" ({ cls := "[J", name := "clone", desc := "()Ljava/lang/Object;" } : Jvm.MethodName) ({ cls := "java/lang/Object", name := "clone", desc := "()Ljava/lang/Object;" } : Jvm.MethodName)) ∈ lw_all := lw_g (lw_at lw_m6 170 rfl) rfl
theorem q1474 : (Jvm.Cond.castable "[J" "java/lang/Cloneable") ∈ lw_tbl := lw_at lw_m6 171 rfl
theorem q3651 : (Jvm.Cond.castable "[J" "java/lang/Object") ∈ lw_tbl := lw_at lw_m15 188 rfl
theorem q3650 : (Jvm.Cond.castable "[LFoldLister$Page;" "java/lang/Object") ∈ lw_tbl := lw_at lw_m15 187 rfl
set_option maxRecDepth 100000
theorem q3644 : (Jvm.Cond.sameMethod "[Ljava/lang/Object;" "java/lang/Object" "getClass" "()Ljava/lang/Class;") ∈ lw_all := lw_g (lw_at lw_m15 181 rfl) rfl
set_option maxRecDepth 100000
theorem q3645 : (Jvm.Cond.selects "[Ljava/lang/Object;" ({ cls := "java/lang/Object", name := "getClass", desc := "()Ljava/lang/Class;" } : Jvm.MethodName) ({ cls := "java/lang/Object", name := "getClass", desc := "()Ljava/lang/Class;" } : Jvm.MethodName)) ∈ lw_all := lw_g (lw_at lw_m15 182 rfl) rfl
theorem q3649 : (Jvm.Cond.castable "[Ljava/lang/Object;" "java/lang/Object") ∈ lw_tbl := lw_at lw_m15 186 rfl
theorem q3652 : (Jvm.Cond.castable "[Z" "java/lang/Object") ∈ lw_tbl := lw_at lw_m15 189 rfl
set_option maxRecDepth 100000
theorem q140 : (Jvm.Cond.initialized "java/lang/Integer$IntegerCache") ∈ lw_all := lw_g (lw_at lw_m1 37 rfl) rfl
set_option maxRecDepth 100000
theorem q922 : (Jvm.Cond.laysStatic "java/lang/Integer$IntegerCache" "high" "I") ∈ lw_tbl := lw_at lw_m4 99 rfl
theorem q924 : (Jvm.Cond.laysStatic "java/lang/Integer$IntegerCache" "cache" "[Ljava/lang/Integer;") ∈ lw_tbl := lw_at lw_m4 101 rfl
theorem q130 : (Jvm.Cond.initialized "java/lang/System") ∈ lw_all := lw_g (lw_at lw_m1 27 rfl) rfl
set_option maxRecDepth 100000
theorem q523 : (Jvm.Cond.static ({ cls := "java/lang/System", name := "arraycopy", desc := "(Ljava/lang/Object;ILjava/lang/Object;II)V" } : Jvm.MethodName)) ∈ lw_all := lw_g (lw_at lw_m2 180 rfl) rfl
theorem q524 : (Jvm.Cond.native ({ cls := "java/lang/System", name := "arraycopy", desc := "(Ljava/lang/Object;ILjava/lang/Object;II)V" } : Jvm.MethodName)) ∈ lw_all := lw_g (lw_at lw_m2 181 rfl) rfl
theorem q145 : (Jvm.Cond.initialized "java/util/AbstractList$ListItr") ∈ lw_all := lw_g (lw_at lw_m1 42 rfl) rfl
set_option maxRecDepth 100000
theorem q870 : (Jvm.Cond.castable "java/util/AbstractList$ListItr" "java/util/Iterator") ∈ lw_tbl := lw_at lw_m4 47 rfl
theorem q871 : (Jvm.Cond.selects "java/util/AbstractList$ListItr" ({ cls := "java/util/Iterator", name := "hasNext", desc := "()Z" } : Jvm.MethodName) ({ cls := "java/util/AbstractList$Itr", name := "hasNext", desc := "()Z" } : Jvm.MethodName)) ∈ lw_all := lw_g (lw_at lw_m4 48 rfl) rfl
theorem q872 : (Jvm.Cond.unhidden "java/util/AbstractList$ListItr" "hasNext" "()Z") ∈ lw_tbl := lw_at lw_m4 49 rfl
theorem q938 : (Jvm.Cond.selects "java/util/AbstractList$ListItr" ({ cls := "java/util/Iterator", name := "next", desc := "()Ljava/lang/Object;" } : Jvm.MethodName) ({ cls := "java/util/AbstractList$Itr", name := "next", desc := "()Ljava/lang/Object;" } : Jvm.MethodName)) ∈ lw_all := lw_g (lw_at lw_m4 115 rfl) rfl
theorem q939 : (Jvm.Cond.unhidden "java/util/AbstractList$ListItr" "next" "()Ljava/lang/Object;") ∈ lw_tbl := lw_at lw_m4 116 rfl
theorem q946 : (Jvm.Cond.selects "java/util/AbstractList$ListItr" ({ cls := "java/util/AbstractList$Itr", name := "checkForComodification", desc := "()V" } : Jvm.MethodName) ({ cls := "java/util/AbstractList$Itr", name := "checkForComodification", desc := "()V" } : Jvm.MethodName)) ∈ lw_all := lw_g (lw_at lw_m4 123 rfl) rfl
theorem q1015 : (Jvm.Cond.selects "java/util/AbstractList$ListItr" ({ cls := "java/lang/Object", name := "getClass", desc := "()Ljava/lang/Class;" } : Jvm.MethodName) ({ cls := "java/lang/Object", name := "getClass", desc := "()Ljava/lang/Class;" } : Jvm.MethodName)) ∈ lw_all := lw_g (lw_at lw_m4 192 rfl) rfl
theorem q2684 : (Jvm.Cond.selects "java/util/AbstractList$ListItr" ({ cls := "java/util/Iterator", name := "remove", desc := "()V" } : Jvm.MethodName) ({ cls := "java/util/AbstractList$Itr", name := "remove", desc := "()V" } : Jvm.MethodName)) ∈ lw_all := lw_g (lw_at lw_m11 181 rfl) rfl
theorem q2685 : (Jvm.Cond.unhidden "java/util/AbstractList$ListItr" "remove" "()V") ∈ lw_tbl := lw_at lw_m11 182 rfl
theorem q3626 : (Jvm.Cond.castable "java/util/AbstractList$ListItr" "java/lang/Object") ∈ lw_tbl := lw_at lw_m15 163 rfl
theorem q3657 : (Jvm.Cond.fieldLink "java/util/AbstractList$ListItr" (1 : Nat) "java/util/AbstractList$ListItr" "this$0" "Ljava/util/AbstractList;") ∈ lw_all := lw_g (lw_at lw_m15 194 rfl) rfl
theorem q3658 : (Jvm.Cond.fieldLink "java/util/AbstractList$ListItr" (13 : Nat) "java/util/AbstractList$ListItr" "cursor" "I") ∈ lw_all := lw_g (lw_at lw_m15 195 rfl) rfl
theorem q3659 : (Jvm.Cond.sameField "java/util/AbstractList$ListItr" "java/util/AbstractList$Itr" "cursor" "I") ∈ lw_all := lw_g (lw_at lw_m15 196 rfl) rfl
theorem q1728 : (Jvm.Cond.interfaceMethod "java/util/Collection" "java/util/Collection" "toArray" "()[Ljava/lang/Object;") ∈ lw_tbl := lw_at lw_m7 185 rfl
set_option maxRecDepth 100000
theorem q1729 : (Jvm.Cond.declares ({ cls := "java/util/Collection", name := "toArray", desc := "()[Ljava/lang/Object;" } : Jvm.MethodName)) ∈ lw_tbl := lw_at lw_m7 186 rfl
theorem q376 : (Jvm.Cond.interfaceMethod "java/util/List" "java/util/List" "size" "()I") ∈ lw_tbl := lw_at lw_m2 33 rfl
set_option maxRecDepth 100000
theorem q377 : (Jvm.Cond.declares ({ cls := "java/util/List", name := "size", desc := "()I" } : Jvm.MethodName)) ∈ lw_tbl := lw_at lw_m2 34 rfl
theorem q396 : (Jvm.Cond.interfaceMethod "java/util/List" "java/util/List" "get" "(I)Ljava/lang/Object;") ∈ lw_tbl := lw_at lw_m2 53 rfl
theorem q397 : (Jvm.Cond.declares ({ cls := "java/util/List", name := "get", desc := "(I)Ljava/lang/Object;" } : Jvm.MethodName)) ∈ lw_tbl := lw_at lw_m2 54 rfl
theorem q1085 : (Jvm.Cond.interfaceMethod "java/util/List" "java/util/List" "add" "(Ljava/lang/Object;)Z") ∈ lw_tbl := lw_at lw_m5 22 rfl
theorem q1086 : (Jvm.Cond.declares ({ cls := "java/util/List", name := "add", desc := "(Ljava/lang/Object;)Z" } : Jvm.MethodName)) ∈ lw_tbl := lw_at lw_m5 23 rfl
theorem q1205 : (Jvm.Cond.interfaceMethod "java/util/List" "java/util/List" "iterator" "()Ljava/util/Iterator;") ∈ lw_tbl := lw_at lw_m5 142 rfl
theorem q1206 : (Jvm.Cond.declares ({ cls := "java/util/List", name := "iterator", desc := "()Ljava/util/Iterator;" } : Jvm.MethodName)) ∈ lw_tbl := lw_at lw_m5 143 rfl
theorem q1719 : (Jvm.Cond.interfaceMethod "java/util/List" "java/util/List" "addAll" "(Ljava/util/Collection;)Z") ∈ lw_tbl := lw_at lw_m7 176 rfl
theorem q1720 : (Jvm.Cond.declares ({ cls := "java/util/List", name := "addAll", desc := "(Ljava/util/Collection;)Z" } : Jvm.MethodName)) ∈ lw_tbl := lw_at lw_m7 177 rfl
theorem q1823 : (Jvm.Cond.interfaceMethod "java/util/List" "java/util/List" "set" "(ILjava/lang/Object;)Ljava/lang/Object;") ∈ lw_tbl := lw_at lw_m8 40 rfl
theorem q1824 : (Jvm.Cond.declares ({ cls := "java/util/List", name := "set", desc := "(ILjava/lang/Object;)Ljava/lang/Object;" } : Jvm.MethodName)) ∈ lw_tbl := lw_at lw_m8 41 rfl
theorem q1995 : (Jvm.Cond.interfaceMethod "java/util/List" "java/util/List" "add" "(ILjava/lang/Object;)V") ∈ lw_tbl := lw_at lw_m8 212 rfl
theorem q1996 : (Jvm.Cond.declares ({ cls := "java/util/List", name := "add", desc := "(ILjava/lang/Object;)V" } : Jvm.MethodName)) ∈ lw_tbl := lw_at lw_m8 213 rfl
theorem q2637 : (Jvm.Cond.interfaceMethod "java/util/List" "java/util/List" "remove" "(I)Ljava/lang/Object;") ∈ lw_tbl := lw_at lw_m11 134 rfl
theorem q2638 : (Jvm.Cond.declares ({ cls := "java/util/List", name := "remove", desc := "(I)Ljava/lang/Object;" } : Jvm.MethodName)) ∈ lw_tbl := lw_at lw_m11 135 rfl
theorem q2774 : (Jvm.Cond.interfaceMethod "java/util/List" "java/util/List" "addAll" "(ILjava/util/Collection;)Z") ∈ lw_tbl := lw_at lw_m12 31 rfl
theorem q2775 : (Jvm.Cond.declares ({ cls := "java/util/List", name := "addAll", desc := "(ILjava/util/Collection;)Z" } : Jvm.MethodName)) ∈ lw_tbl := lw_at lw_m12 32 rfl
theorem q157 : (Jvm.Cond.initialized "jdk/internal/misc/UnsafeConstants") ∈ lw_all := lw_g (lw_at lw_m1 54 rfl) rfl
set_option maxRecDepth 100000
theorem q2306 : (Jvm.Cond.laysStatic "jdk/internal/misc/UnsafeConstants" "BIG_ENDIAN" "Z") ∈ lw_tbl := lw_at lw_m10 43 rfl
theorem q209 : (Jvm.Cond.arrayClass Jvm.ClassFile.FieldType.byte) ∈ lw_all := lw_g (lw_at lw_m1 106 rfl) rfl
set_option maxRecDepth 100000
theorem q231 : (Jvm.Cond.arrayClass Jvm.ClassFile.FieldType.int) ∈ lw_all := lw_g (lw_at lw_m1 128 rfl) rfl
theorem q270 : (Jvm.Cond.arrayOver (Jvm.ClassFile.FieldType.object "java/lang/Object")) ∈ lw_tbl := lw_at lw_m1 167 rfl
theorem q281 : (Jvm.Cond.arrayOver (Jvm.ClassFile.FieldType.object "FoldLister$Page")) ∈ lw_tbl := lw_at lw_m1 178 rfl
theorem q1402 : (Jvm.Cond.arrayClass Jvm.ClassFile.FieldType.long) ∈ lw_all := lw_g (lw_at lw_m6 99 rfl) rfl
theorem q3058 : (Jvm.Cond.arrayClass Jvm.ClassFile.FieldType.boolean) ∈ lw_all := lw_g (lw_at lw_m13 75 rfl) rfl
