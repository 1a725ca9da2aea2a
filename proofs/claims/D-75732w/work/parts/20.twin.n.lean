/-! twin: names (rows of claim/names) -/
set_option maxRecDepth 100000
abbrev cX3_thrown : ByteArray := prog_39_method_1_code
def yX3_thrown : MethodName := ⟨RX3, "thrown", "()I"⟩
theorem dX3_thrown_0 : decode cX3_thrown 0 = .ok (.aload_n 0, 1) := by decide +kernel
theorem dX3_thrown_1 : decode cX3_thrown 1 = .ok (.getfield 3, 3) := by decide +kernel
theorem dX3_thrown_4 : decode cX3_thrown 4 = .ok (.ireturn, 1) := by decide +kernel
abbrev cX3_begins : ByteArray := prog_39_method_5_code
def yX3_begins : MethodName := ⟨RX3, "begins", "()V"⟩
def dkwX3_begins_1 : List UInt8 := [181, 0, 56, 177]
abbrev dktX3_begins_1 : List UInt8 := dkwX3_begins_1 ++ []
def dkwX3_begins_0 : List UInt8 := [3, 60, 27, 17, 2, 80, 162, 0, 16, 42, 180, 0, 13, 27, 3, 79, 132, 1, 1, 167, 255, 239, 42, 3]
abbrev dktX3_begins_0 : List UInt8 := dkwX3_begins_0 ++ dktX3_begins_1
theorem dksX3_begins_0 : cX3_begins.data.toList.drop 0 = dktX3_begins_0 := by decide +kernel
theorem dksX3_begins_1 : cX3_begins.data.toList.drop 24 = dktX3_begins_1 := dk_seg dksX3_begins_0 24 rfl rfl
theorem dX3_begins_0 : decode cX3_begins 0 = .ok (.iconst 0, 1) := dk_3 (dk_at dksX3_begins_0 0 rfl rfl)
theorem dX3_begins_1 : decode cX3_begins 1 = .ok (.istore_n 1, 1) := dk_60 (dk_at dksX3_begins_0 1 rfl rfl)
theorem dX3_begins_2 : decode cX3_begins 2 = .ok (.iload_n 1, 1) := dk_27 (dk_at dksX3_begins_0 2 rfl rfl)
theorem dX3_begins_3 : decode cX3_begins 3 = .ok (.sipush 592, 3) := dk_17 2 80 (dk_at dksX3_begins_0 3 rfl rfl)
theorem dX3_begins_6 : decode cX3_begins 6 = .ok (.if_icmp .ge 16, 3) := dk_162 0 16 (dk_at dksX3_begins_0 6 rfl rfl)
theorem dX3_begins_9 : decode cX3_begins 9 = .ok (.aload_n 0, 1) := dk_42 (dk_at dksX3_begins_0 9 rfl rfl)
theorem dX3_begins_10 : decode cX3_begins 10 = .ok (.getfield 13, 3) := dk_180 0 13 (dk_at dksX3_begins_0 10 rfl rfl)
theorem dX3_begins_13 : decode cX3_begins 13 = .ok (.iload_n 1, 1) := dk_27 (dk_at dksX3_begins_0 13 rfl rfl)
theorem dX3_begins_14 : decode cX3_begins 14 = .ok (.iconst 0, 1) := dk_3 (dk_at dksX3_begins_0 14 rfl rfl)
theorem dX3_begins_15 : decode cX3_begins 15 = .ok (.iastore, 1) := dk_79 (dk_at dksX3_begins_0 15 rfl rfl)
theorem dX3_begins_16 : decode cX3_begins 16 = .ok (.iinc 1 1, 3) := dk_132 1 1 (dk_at dksX3_begins_0 16 rfl rfl)
theorem dX3_begins_19 : decode cX3_begins 19 = .ok (.goto (-17), 3) := dk_167 255 239 (dk_at dksX3_begins_0 19 rfl rfl)
theorem dX3_begins_22 : decode cX3_begins 22 = .ok (.aload_n 0, 1) := dk_42 (dk_at dksX3_begins_0 22 rfl rfl)
theorem dX3_begins_23 : decode cX3_begins 23 = .ok (.iconst 0, 1) := dk_3 (dk_at dksX3_begins_0 23 rfl rfl)
theorem dX3_begins_24 : decode cX3_begins 24 = .ok (.putfield 56, 3) := dk_181 0 56 (dk_at dksX3_begins_1 0 rfl rfl)
theorem dX3_begins_27 : decode cX3_begins 27 = .ok (.return_, 1) := dk_177 (dk_at dksX3_begins_1 3 rfl rfl)
abbrev cX3_init : ByteArray := prog_39_method_4_code
def yX3_init : MethodName := ⟨RX3, "<init>", "()V"⟩
def dkwX3_init_4 : List UInt8 := [181, 0, 47, 42, 17, 1, 44, 188, 8, 181, 0, 50, 42, 182, 0, 53, 177]
abbrev dktX3_init_4 : List UInt8 := dkwX3_init_4 ++ []
def dkwX3_init_3 : List UInt8 := [17, 3, 132, 188, 8, 181, 0, 37, 42, 8, 188, 10, 181, 0, 41, 42, 2, 181, 0, 44, 42, 8, 188, 10]
abbrev dktX3_init_3 : List UInt8 := dkwX3_init_3 ++ dktX3_init_4
def dkwX3_init_2 : List UInt8 := [181, 0, 27, 42, 17, 21, 228, 188, 10, 181, 0, 30, 42, 17, 5, 121, 188, 11, 181, 0, 33, 42]
abbrev dktX3_init_2 : List UInt8 := dkwX3_init_2 ++ dktX3_init_3
def dkwX3_init_1 : List UInt8 := [17, 18, 128, 188, 10, 181, 0, 20, 42, 18, 23, 188, 10, 181, 0, 24, 42, 17, 21, 228, 188, 10]
abbrev dktX3_init_1 : List UInt8 := dkwX3_init_1 ++ dktX3_init_2
def dkwX3_init_0 : List UInt8 := [42, 183, 0, 7, 42, 17, 2, 80, 188, 10, 181, 0, 13, 42, 17, 2, 80, 188, 10, 181, 0, 17, 42]
abbrev dktX3_init_0 : List UInt8 := dkwX3_init_0 ++ dktX3_init_1
theorem dksX3_init_0 : cX3_init.data.toList.drop 0 = dktX3_init_0 := by decide +kernel
theorem dksX3_init_1 : cX3_init.data.toList.drop 23 = dktX3_init_1 := dk_seg dksX3_init_0 23 rfl rfl
theorem dksX3_init_2 : cX3_init.data.toList.drop 45 = dktX3_init_2 := dk_seg dksX3_init_1 22 rfl rfl
theorem dksX3_init_3 : cX3_init.data.toList.drop 67 = dktX3_init_3 := dk_seg dksX3_init_2 22 rfl rfl
theorem dksX3_init_4 : cX3_init.data.toList.drop 91 = dktX3_init_4 := dk_seg dksX3_init_3 24 rfl rfl
theorem dX3_init_0 : decode cX3_init 0 = .ok (.aload_n 0, 1) := dk_42 (dk_at dksX3_init_0 0 rfl rfl)
theorem dX3_init_1 : decode cX3_init 1 = .ok (.invokespecial 7, 3) := dk_183 0 7 (dk_at dksX3_init_0 1 rfl rfl)
theorem dX3_init_4 : decode cX3_init 4 = .ok (.aload_n 0, 1) := dk_42 (dk_at dksX3_init_0 4 rfl rfl)
theorem dX3_init_5 : decode cX3_init 5 = .ok (.sipush 592, 3) := dk_17 2 80 (dk_at dksX3_init_0 5 rfl rfl)
theorem dX3_init_8 : decode cX3_init 8 = .ok (.newarray .int, 2) := dk_188_10 (dk_at dksX3_init_0 8 rfl rfl)
theorem dX3_init_10 : decode cX3_init 10 = .ok (.putfield 13, 3) := dk_181 0 13 (dk_at dksX3_init_0 10 rfl rfl)
theorem dX3_init_13 : decode cX3_init 13 = .ok (.aload_n 0, 1) := dk_42 (dk_at dksX3_init_0 13 rfl rfl)
theorem dX3_init_14 : decode cX3_init 14 = .ok (.sipush 592, 3) := dk_17 2 80 (dk_at dksX3_init_0 14 rfl rfl)
theorem dX3_init_17 : decode cX3_init 17 = .ok (.newarray .int, 2) := dk_188_10 (dk_at dksX3_init_0 17 rfl rfl)
theorem dX3_init_19 : decode cX3_init 19 = .ok (.putfield 17, 3) := dk_181 0 17 (dk_at dksX3_init_0 19 rfl rfl)
theorem dX3_init_22 : decode cX3_init 22 = .ok (.aload_n 0, 1) := dk_42 (dk_at dksX3_init_0 22 rfl rfl)
theorem dX3_init_23 : decode cX3_init 23 = .ok (.sipush 4736, 3) := dk_17 18 128 (dk_at dksX3_init_1 0 rfl rfl)
theorem dX3_init_26 : decode cX3_init 26 = .ok (.newarray .int, 2) := dk_188_10 (dk_at dksX3_init_1 3 rfl rfl)
theorem dX3_init_28 : decode cX3_init 28 = .ok (.putfield 20, 3) := dk_181 0 20 (dk_at dksX3_init_1 5 rfl rfl)
theorem dX3_init_31 : decode cX3_init 31 = .ok (.aload_n 0, 1) := dk_42 (dk_at dksX3_init_1 8 rfl rfl)
theorem dX3_init_32 : decode cX3_init 32 = .ok (.ldc 23, 2) := dk_18 23 (dk_at dksX3_init_1 9 rfl rfl)
theorem dX3_init_34 : decode cX3_init 34 = .ok (.newarray .int, 2) := dk_188_10 (dk_at dksX3_init_1 11 rfl rfl)
theorem dX3_init_36 : decode cX3_init 36 = .ok (.putfield 24, 3) := dk_181 0 24 (dk_at dksX3_init_1 13 rfl rfl)
theorem dX3_init_39 : decode cX3_init 39 = .ok (.aload_n 0, 1) := dk_42 (dk_at dksX3_init_1 16 rfl rfl)
theorem dX3_init_40 : decode cX3_init 40 = .ok (.sipush 5604, 3) := dk_17 21 228 (dk_at dksX3_init_1 17 rfl rfl)
theorem dX3_init_43 : decode cX3_init 43 = .ok (.newarray .int, 2) := dk_188_10 (dk_at dksX3_init_1 20 rfl rfl)
theorem dX3_init_45 : decode cX3_init 45 = .ok (.putfield 27, 3) := dk_181 0 27 (dk_at dksX3_init_2 0 rfl rfl)
theorem dX3_init_48 : decode cX3_init 48 = .ok (.aload_n 0, 1) := dk_42 (dk_at dksX3_init_2 3 rfl rfl)
theorem dX3_init_49 : decode cX3_init 49 = .ok (.sipush 5604, 3) := dk_17 21 228 (dk_at dksX3_init_2 4 rfl rfl)
theorem dX3_init_52 : decode cX3_init 52 = .ok (.newarray .int, 2) := dk_188_10 (dk_at dksX3_init_2 7 rfl rfl)
theorem dX3_init_54 : decode cX3_init 54 = .ok (.putfield 30, 3) := dk_181 0 30 (dk_at dksX3_init_2 9 rfl rfl)
theorem dX3_init_57 : decode cX3_init 57 = .ok (.aload_n 0, 1) := dk_42 (dk_at dksX3_init_2 12 rfl rfl)
theorem dX3_init_58 : decode cX3_init 58 = .ok (.sipush 1401, 3) := dk_17 5 121 (dk_at dksX3_init_2 13 rfl rfl)
theorem dX3_init_61 : decode cX3_init 61 = .ok (.newarray .long, 2) := dk_188_11 (dk_at dksX3_init_2 16 rfl rfl)
theorem dX3_init_63 : decode cX3_init 63 = .ok (.putfield 33, 3) := dk_181 0 33 (dk_at dksX3_init_2 18 rfl rfl)
theorem dX3_init_66 : decode cX3_init 66 = .ok (.aload_n 0, 1) := dk_42 (dk_at dksX3_init_2 21 rfl rfl)
theorem dX3_init_67 : decode cX3_init 67 = .ok (.sipush 900, 3) := dk_17 3 132 (dk_at dksX3_init_3 0 rfl rfl)
theorem dX3_init_70 : decode cX3_init 70 = .ok (.newarray .byte, 2) := dk_188_8 (dk_at dksX3_init_3 3 rfl rfl)
theorem dX3_init_72 : decode cX3_init 72 = .ok (.putfield 37, 3) := dk_181 0 37 (dk_at dksX3_init_3 5 rfl rfl)
theorem dX3_init_75 : decode cX3_init 75 = .ok (.aload_n 0, 1) := dk_42 (dk_at dksX3_init_3 8 rfl rfl)
theorem dX3_init_76 : decode cX3_init 76 = .ok (.iconst 5, 1) := dk_8 (dk_at dksX3_init_3 9 rfl rfl)
theorem dX3_init_77 : decode cX3_init 77 = .ok (.newarray .int, 2) := dk_188_10 (dk_at dksX3_init_3 10 rfl rfl)
theorem dX3_init_79 : decode cX3_init 79 = .ok (.putfield 41, 3) := dk_181 0 41 (dk_at dksX3_init_3 12 rfl rfl)
theorem dX3_init_82 : decode cX3_init 82 = .ok (.aload_n 0, 1) := dk_42 (dk_at dksX3_init_3 15 rfl rfl)
theorem dX3_init_83 : decode cX3_init 83 = .ok (.iconst (-1), 1) := dk_2 (dk_at dksX3_init_3 16 rfl rfl)
theorem dX3_init_84 : decode cX3_init 84 = .ok (.putfield 44, 3) := dk_181 0 44 (dk_at dksX3_init_3 17 rfl rfl)
theorem dX3_init_87 : decode cX3_init 87 = .ok (.aload_n 0, 1) := dk_42 (dk_at dksX3_init_3 20 rfl rfl)
theorem dX3_init_88 : decode cX3_init 88 = .ok (.iconst 5, 1) := dk_8 (dk_at dksX3_init_3 21 rfl rfl)
theorem dX3_init_89 : decode cX3_init 89 = .ok (.newarray .int, 2) := dk_188_10 (dk_at dksX3_init_3 22 rfl rfl)
theorem dX3_init_91 : decode cX3_init 91 = .ok (.putfield 47, 3) := dk_181 0 47 (dk_at dksX3_init_4 0 rfl rfl)
theorem dX3_init_94 : decode cX3_init 94 = .ok (.aload_n 0, 1) := dk_42 (dk_at dksX3_init_4 3 rfl rfl)
theorem dX3_init_95 : decode cX3_init 95 = .ok (.sipush 300, 3) := dk_17 1 44 (dk_at dksX3_init_4 4 rfl rfl)
theorem dX3_init_98 : decode cX3_init 98 = .ok (.newarray .byte, 2) := dk_188_8 (dk_at dksX3_init_4 7 rfl rfl)
theorem dX3_init_100 : decode cX3_init 100 = .ok (.putfield 50, 3) := dk_181 0 50 (dk_at dksX3_init_4 9 rfl rfl)
theorem dX3_init_103 : decode cX3_init 103 = .ok (.aload_n 0, 1) := dk_42 (dk_at dksX3_init_4 12 rfl rfl)
theorem dX3_init_104 : decode cX3_init 104 = .ok (.invokevirtual 53, 3) := dk_182 0 53 (dk_at dksX3_init_4 13 rfl rfl)
theorem dX3_init_107 : decode cX3_init 107 = .ok (.return_, 1) := dk_177 (dk_at dksX3_init_4 16 rfl rfl)
abbrev cX3_copies : ByteArray := prog_39_method_6_code
def yX3_copies : MethodName := ⟨RX3, "copies", "([II[II)V"⟩
def dkwX3_copies_1 : List UInt8 := [132, 5, 1, 167, 255, 232, 177]
abbrev dktX3_copies_1 : List UInt8 := dkwX3_copies_1 ++ []
def dkwX3_copies_0 : List UInt8 := [3, 54, 5, 21, 5, 17, 2, 80, 162, 0, 22, 45, 21, 4, 21, 5, 96, 43, 28, 21, 5, 96, 46, 79]
abbrev dktX3_copies_0 : List UInt8 := dkwX3_copies_0 ++ dktX3_copies_1
theorem dksX3_copies_0 : cX3_copies.data.toList.drop 0 = dktX3_copies_0 := by decide +kernel
theorem dksX3_copies_1 : cX3_copies.data.toList.drop 24 = dktX3_copies_1 := dk_seg dksX3_copies_0 24 rfl rfl
theorem dX3_copies_0 : decode cX3_copies 0 = .ok (.iconst 0, 1) := dk_3 (dk_at dksX3_copies_0 0 rfl rfl)
theorem dX3_copies_1 : decode cX3_copies 1 = .ok (.istore 5, 2) := dk_54 5 (dk_at dksX3_copies_0 1 rfl rfl)
theorem dX3_copies_3 : decode cX3_copies 3 = .ok (.iload 5, 2) := dk_21 5 (dk_at dksX3_copies_0 3 rfl rfl)
theorem dX3_copies_5 : decode cX3_copies 5 = .ok (.sipush 592, 3) := dk_17 2 80 (dk_at dksX3_copies_0 5 rfl rfl)
theorem dX3_copies_8 : decode cX3_copies 8 = .ok (.if_icmp .ge 22, 3) := dk_162 0 22 (dk_at dksX3_copies_0 8 rfl rfl)
theorem dX3_copies_11 : decode cX3_copies 11 = .ok (.aload_n 3, 1) := dk_45 (dk_at dksX3_copies_0 11 rfl rfl)
theorem dX3_copies_12 : decode cX3_copies 12 = .ok (.iload 4, 2) := dk_21 4 (dk_at dksX3_copies_0 12 rfl rfl)
theorem dX3_copies_14 : decode cX3_copies 14 = .ok (.iload 5, 2) := dk_21 5 (dk_at dksX3_copies_0 14 rfl rfl)
theorem dX3_copies_16 : decode cX3_copies 16 = .ok (.iadd, 1) := dk_96 (dk_at dksX3_copies_0 16 rfl rfl)
theorem dX3_copies_17 : decode cX3_copies 17 = .ok (.aload_n 1, 1) := dk_43 (dk_at dksX3_copies_0 17 rfl rfl)
theorem dX3_copies_18 : decode cX3_copies 18 = .ok (.iload_n 2, 1) := dk_28 (dk_at dksX3_copies_0 18 rfl rfl)
theorem dX3_copies_19 : decode cX3_copies 19 = .ok (.iload 5, 2) := dk_21 5 (dk_at dksX3_copies_0 19 rfl rfl)
theorem dX3_copies_21 : decode cX3_copies 21 = .ok (.iadd, 1) := dk_96 (dk_at dksX3_copies_0 21 rfl rfl)
theorem dX3_copies_22 : decode cX3_copies 22 = .ok (.iaload, 1) := dk_46 (dk_at dksX3_copies_0 22 rfl rfl)
theorem dX3_copies_23 : decode cX3_copies 23 = .ok (.iastore, 1) := dk_79 (dk_at dksX3_copies_0 23 rfl rfl)
theorem dX3_copies_24 : decode cX3_copies 24 = .ok (.iinc 5 1, 3) := dk_132 5 1 (dk_at dksX3_copies_1 0 rfl rfl)
theorem dX3_copies_27 : decode cX3_copies 27 = .ok (.goto (-24), 3) := dk_167 255 232 (dk_at dksX3_copies_1 3 rfl rfl)
theorem dX3_copies_30 : decode cX3_copies 30 = .ok (.return_, 1) := dk_177 (dk_at dksX3_copies_1 6 rfl rfl)
abbrev cX3_undo : ByteArray := prog_39_method_8_code
def yX3_undo : MethodName := ⟨RX3, "undo", "()I"⟩
def dkwX3_undo_2 : List UInt8 := [180, 0, 56, 172]
abbrev dktX3_undo_2 : List UInt8 := dkwX3_undo_2 ++ []
def dkwX3_undo_1 : List UInt8 := [42, 42, 180, 0, 20, 17, 2, 80, 42, 180, 0, 56, 104, 42, 180, 0, 13, 3, 182, 0, 59, 42]
abbrev dktX3_undo_1 : List UInt8 := dkwX3_undo_1 ++ dktX3_undo_2
def dkwX3_undo_0 : List UInt8 := [42, 3, 181, 0, 3, 42, 180, 0, 56, 154, 0, 5, 2, 172, 42, 89, 180, 0, 56, 4, 100, 181, 0, 56]
abbrev dktX3_undo_0 : List UInt8 := dkwX3_undo_0 ++ dktX3_undo_1
theorem dksX3_undo_0 : cX3_undo.data.toList.drop 0 = dktX3_undo_0 := by decide +kernel
theorem dksX3_undo_1 : cX3_undo.data.toList.drop 24 = dktX3_undo_1 := dk_seg dksX3_undo_0 24 rfl rfl
theorem dksX3_undo_2 : cX3_undo.data.toList.drop 46 = dktX3_undo_2 := dk_seg dksX3_undo_1 22 rfl rfl
theorem dX3_undo_0 : decode cX3_undo 0 = .ok (.aload_n 0, 1) := dk_42 (dk_at dksX3_undo_0 0 rfl rfl)
theorem dX3_undo_1 : decode cX3_undo 1 = .ok (.iconst 0, 1) := dk_3 (dk_at dksX3_undo_0 1 rfl rfl)
theorem dX3_undo_2 : decode cX3_undo 2 = .ok (.putfield 3, 3) := dk_181 0 3 (dk_at dksX3_undo_0 2 rfl rfl)
theorem dX3_undo_5 : decode cX3_undo 5 = .ok (.aload_n 0, 1) := dk_42 (dk_at dksX3_undo_0 5 rfl rfl)
theorem dX3_undo_6 : decode cX3_undo 6 = .ok (.getfield 56, 3) := dk_180 0 56 (dk_at dksX3_undo_0 6 rfl rfl)
theorem dX3_undo_9 : decode cX3_undo 9 = .ok (.ifCond .ne 5, 3) := dk_154 0 5 (dk_at dksX3_undo_0 9 rfl rfl)
theorem dX3_undo_12 : decode cX3_undo 12 = .ok (.iconst (-1), 1) := dk_2 (dk_at dksX3_undo_0 12 rfl rfl)
theorem dX3_undo_13 : decode cX3_undo 13 = .ok (.ireturn, 1) := dk_172 (dk_at dksX3_undo_0 13 rfl rfl)
theorem dX3_undo_14 : decode cX3_undo 14 = .ok (.aload_n 0, 1) := dk_42 (dk_at dksX3_undo_0 14 rfl rfl)
theorem dX3_undo_15 : decode cX3_undo 15 = .ok (.dup, 1) := dk_89 (dk_at dksX3_undo_0 15 rfl rfl)
theorem dX3_undo_16 : decode cX3_undo 16 = .ok (.getfield 56, 3) := dk_180 0 56 (dk_at dksX3_undo_0 16 rfl rfl)
theorem dX3_undo_19 : decode cX3_undo 19 = .ok (.iconst 1, 1) := dk_4 (dk_at dksX3_undo_0 19 rfl rfl)
theorem dX3_undo_20 : decode cX3_undo 20 = .ok (.isub, 1) := dk_100 (dk_at dksX3_undo_0 20 rfl rfl)
theorem dX3_undo_21 : decode cX3_undo 21 = .ok (.putfield 56, 3) := dk_181 0 56 (dk_at dksX3_undo_0 21 rfl rfl)
theorem dX3_undo_24 : decode cX3_undo 24 = .ok (.aload_n 0, 1) := dk_42 (dk_at dksX3_undo_1 0 rfl rfl)
theorem dX3_undo_25 : decode cX3_undo 25 = .ok (.aload_n 0, 1) := dk_42 (dk_at dksX3_undo_1 1 rfl rfl)
theorem dX3_undo_26 : decode cX3_undo 26 = .ok (.getfield 20, 3) := dk_180 0 20 (dk_at dksX3_undo_1 2 rfl rfl)
theorem dX3_undo_29 : decode cX3_undo 29 = .ok (.sipush 592, 3) := dk_17 2 80 (dk_at dksX3_undo_1 5 rfl rfl)
theorem dX3_undo_32 : decode cX3_undo 32 = .ok (.aload_n 0, 1) := dk_42 (dk_at dksX3_undo_1 8 rfl rfl)
theorem dX3_undo_33 : decode cX3_undo 33 = .ok (.getfield 56, 3) := dk_180 0 56 (dk_at dksX3_undo_1 9 rfl rfl)
theorem dX3_undo_36 : decode cX3_undo 36 = .ok (.imul, 1) := dk_104 (dk_at dksX3_undo_1 12 rfl rfl)
theorem dX3_undo_37 : decode cX3_undo 37 = .ok (.aload_n 0, 1) := dk_42 (dk_at dksX3_undo_1 13 rfl rfl)
theorem dX3_undo_38 : decode cX3_undo 38 = .ok (.getfield 13, 3) := dk_180 0 13 (dk_at dksX3_undo_1 14 rfl rfl)
theorem dX3_undo_41 : decode cX3_undo 41 = .ok (.iconst 0, 1) := dk_3 (dk_at dksX3_undo_1 17 rfl rfl)
theorem dX3_undo_42 : decode cX3_undo 42 = .ok (.invokevirtual 59, 3) := dk_182 0 59 (dk_at dksX3_undo_1 18 rfl rfl)
theorem dX3_undo_45 : decode cX3_undo 45 = .ok (.aload_n 0, 1) := dk_42 (dk_at dksX3_undo_1 21 rfl rfl)
theorem dX3_undo_46 : decode cX3_undo 46 = .ok (.getfield 56, 3) := dk_180 0 56 (dk_at dksX3_undo_2 0 rfl rfl)
theorem dX3_undo_49 : decode cX3_undo 49 = .ok (.ireturn, 1) := dk_172 (dk_at dksX3_undo_2 3 rfl rfl)
abbrev cX3_undoDepth : ByteArray := prog_39_method_9_code
def yX3_undoDepth : MethodName := ⟨RX3, "undoDepth", "()I"⟩
def dkwX3_undoDepth_0 : List UInt8 := [42, 3, 181, 0, 3, 42, 180, 0, 56, 172]
abbrev dktX3_undoDepth_0 : List UInt8 := dkwX3_undoDepth_0 ++ []
theorem dksX3_undoDepth_0 : cX3_undoDepth.data.toList.drop 0 = dktX3_undoDepth_0 := by decide +kernel
theorem dX3_undoDepth_0 : decode cX3_undoDepth 0 = .ok (.aload_n 0, 1) := dk_42 (dk_at dksX3_undoDepth_0 0 rfl rfl)
theorem dX3_undoDepth_1 : decode cX3_undoDepth 1 = .ok (.iconst 0, 1) := dk_3 (dk_at dksX3_undoDepth_0 1 rfl rfl)
theorem dX3_undoDepth_2 : decode cX3_undoDepth 2 = .ok (.putfield 3, 3) := dk_181 0 3 (dk_at dksX3_undoDepth_0 2 rfl rfl)
theorem dX3_undoDepth_5 : decode cX3_undoDepth 5 = .ok (.aload_n 0, 1) := dk_42 (dk_at dksX3_undoDepth_0 5 rfl rfl)
theorem dX3_undoDepth_6 : decode cX3_undoDepth 6 = .ok (.getfield 56, 3) := dk_180 0 56 (dk_at dksX3_undoDepth_0 6 rfl rfl)
theorem dX3_undoDepth_9 : decode cX3_undoDepth 9 = .ok (.ireturn, 1) := dk_172 (dk_at dksX3_undoDepth_0 9 rfl rfl)
abbrev cX3_append : ByteArray := prog_39_method_23_code
def yX3_append : MethodName := ⟨RX3, "append", "(IIIII)I"⟩
def dkwX3_append_5 : List UInt8 := [180, 0, 114, 172]
abbrev dktX3_append_5 : List UInt8 := dkwX3_append_5 ++ []
def dkwX3_append_4 : List UInt8 := [100, 122, 145, 84, 132, 6, 1, 167, 255, 213, 42, 89, 180, 0, 114, 16, 20, 96, 181, 0, 114, 42]
abbrev dktX3_append_4 : List UInt8 := dkwX3_append_4 ++ dktX3_append_5
def dkwX3_append_3 : List UInt8 := [180, 0, 114, 21, 6, 96, 42, 180, 0, 41, 21, 6, 7, 108, 46, 16, 24, 16, 8, 21, 6, 7, 112, 104]
abbrev dktX3_append_3 : List UInt8 := dkwX3_append_3 ++ dktX3_append_4
def dkwX3_append_2 : List UInt8 := [79, 42, 180, 0, 41, 7, 21, 5, 79, 3, 54, 6, 21, 6, 16, 20, 162, 0, 42, 42, 180, 0, 37, 42]
abbrev dktX3_append_2 : List UInt8 := dkwX3_append_2 ++ dktX3_append_3
def dkwX3_append_1 : List UInt8 := [3, 27, 79, 42, 180, 0, 41, 4, 28, 79, 42, 180, 0, 41, 5, 29, 79, 42, 180, 0, 41, 6, 21, 4]
abbrev dktX3_append_1 : List UInt8 := dkwX3_append_1 ++ dktX3_append_2
def dkwX3_append_0 : List UInt8 := [42, 3, 181, 0, 3, 42, 180, 0, 114, 16, 20, 96, 17, 3, 132, 164, 0, 5, 2, 172, 42, 180, 0, 41]
abbrev dktX3_append_0 : List UInt8 := dkwX3_append_0 ++ dktX3_append_1
theorem dksX3_append_0 : cX3_append.data.toList.drop 0 = dktX3_append_0 := by decide +kernel
theorem dksX3_append_1 : cX3_append.data.toList.drop 24 = dktX3_append_1 := dk_seg dksX3_append_0 24 rfl rfl
theorem dksX3_append_2 : cX3_append.data.toList.drop 48 = dktX3_append_2 := dk_seg dksX3_append_1 24 rfl rfl
theorem dksX3_append_3 : cX3_append.data.toList.drop 72 = dktX3_append_3 := dk_seg dksX3_append_2 24 rfl rfl
theorem dksX3_append_4 : cX3_append.data.toList.drop 96 = dktX3_append_4 := dk_seg dksX3_append_3 24 rfl rfl
theorem dksX3_append_5 : cX3_append.data.toList.drop 118 = dktX3_append_5 := dk_seg dksX3_append_4 22 rfl rfl
theorem dX3_append_0 : decode cX3_append 0 = .ok (.aload_n 0, 1) := dk_42 (dk_at dksX3_append_0 0 rfl rfl)
theorem dX3_append_1 : decode cX3_append 1 = .ok (.iconst 0, 1) := dk_3 (dk_at dksX3_append_0 1 rfl rfl)
theorem dX3_append_2 : decode cX3_append 2 = .ok (.putfield 3, 3) := dk_181 0 3 (dk_at dksX3_append_0 2 rfl rfl)
theorem dX3_append_5 : decode cX3_append 5 = .ok (.aload_n 0, 1) := dk_42 (dk_at dksX3_append_0 5 rfl rfl)
theorem dX3_append_6 : decode cX3_append 6 = .ok (.getfield 114, 3) := dk_180 0 114 (dk_at dksX3_append_0 6 rfl rfl)
theorem dX3_append_9 : decode cX3_append 9 = .ok (.bipush 20, 2) := dk_16 20 (dk_at dksX3_append_0 9 rfl rfl)
theorem dX3_append_11 : decode cX3_append 11 = .ok (.iadd, 1) := dk_96 (dk_at dksX3_append_0 11 rfl rfl)
theorem dX3_append_12 : decode cX3_append 12 = .ok (.sipush 900, 3) := dk_17 3 132 (dk_at dksX3_append_0 12 rfl rfl)
theorem dX3_append_15 : decode cX3_append 15 = .ok (.if_icmp .le 5, 3) := dk_164 0 5 (dk_at dksX3_append_0 15 rfl rfl)
theorem dX3_append_18 : decode cX3_append 18 = .ok (.iconst (-1), 1) := dk_2 (dk_at dksX3_append_0 18 rfl rfl)
theorem dX3_append_19 : decode cX3_append 19 = .ok (.ireturn, 1) := dk_172 (dk_at dksX3_append_0 19 rfl rfl)
theorem dX3_append_20 : decode cX3_append 20 = .ok (.aload_n 0, 1) := dk_42 (dk_at dksX3_append_0 20 rfl rfl)
theorem dX3_append_21 : decode cX3_append 21 = .ok (.getfield 41, 3) := dk_180 0 41 (dk_at dksX3_append_0 21 rfl rfl)
theorem dX3_append_24 : decode cX3_append 24 = .ok (.iconst 0, 1) := dk_3 (dk_at dksX3_append_1 0 rfl rfl)
theorem dX3_append_25 : decode cX3_append 25 = .ok (.iload_n 1, 1) := dk_27 (dk_at dksX3_append_1 1 rfl rfl)
theorem dX3_append_26 : decode cX3_append 26 = .ok (.iastore, 1) := dk_79 (dk_at dksX3_append_1 2 rfl rfl)
theorem dX3_append_27 : decode cX3_append 27 = .ok (.aload_n 0, 1) := dk_42 (dk_at dksX3_append_1 3 rfl rfl)
theorem dX3_append_28 : decode cX3_append 28 = .ok (.getfield 41, 3) := dk_180 0 41 (dk_at dksX3_append_1 4 rfl rfl)
theorem dX3_append_31 : decode cX3_append 31 = .ok (.iconst 1, 1) := dk_4 (dk_at dksX3_append_1 7 rfl rfl)
theorem dX3_append_32 : decode cX3_append 32 = .ok (.iload_n 2, 1) := dk_28 (dk_at dksX3_append_1 8 rfl rfl)
theorem dX3_append_33 : decode cX3_append 33 = .ok (.iastore, 1) := dk_79 (dk_at dksX3_append_1 9 rfl rfl)
theorem dX3_append_34 : decode cX3_append 34 = .ok (.aload_n 0, 1) := dk_42 (dk_at dksX3_append_1 10 rfl rfl)
theorem dX3_append_35 : decode cX3_append 35 = .ok (.getfield 41, 3) := dk_180 0 41 (dk_at dksX3_append_1 11 rfl rfl)
theorem dX3_append_38 : decode cX3_append 38 = .ok (.iconst 2, 1) := dk_5 (dk_at dksX3_append_1 14 rfl rfl)
theorem dX3_append_39 : decode cX3_append 39 = .ok (.iload_n 3, 1) := dk_29 (dk_at dksX3_append_1 15 rfl rfl)
theorem dX3_append_40 : decode cX3_append 40 = .ok (.iastore, 1) := dk_79 (dk_at dksX3_append_1 16 rfl rfl)
theorem dX3_append_41 : decode cX3_append 41 = .ok (.aload_n 0, 1) := dk_42 (dk_at dksX3_append_1 17 rfl rfl)
theorem dX3_append_42 : decode cX3_append 42 = .ok (.getfield 41, 3) := dk_180 0 41 (dk_at dksX3_append_1 18 rfl rfl)
theorem dX3_append_45 : decode cX3_append 45 = .ok (.iconst 3, 1) := dk_6 (dk_at dksX3_append_1 21 rfl rfl)
theorem dX3_append_46 : decode cX3_append 46 = .ok (.iload 4, 2) := dk_21 4 (dk_at dksX3_append_1 22 rfl rfl)
theorem dX3_append_48 : decode cX3_append 48 = .ok (.iastore, 1) := dk_79 (dk_at dksX3_append_2 0 rfl rfl)
theorem dX3_append_49 : decode cX3_append 49 = .ok (.aload_n 0, 1) := dk_42 (dk_at dksX3_append_2 1 rfl rfl)
theorem dX3_append_50 : decode cX3_append 50 = .ok (.getfield 41, 3) := dk_180 0 41 (dk_at dksX3_append_2 2 rfl rfl)
theorem dX3_append_53 : decode cX3_append 53 = .ok (.iconst 4, 1) := dk_7 (dk_at dksX3_append_2 5 rfl rfl)
theorem dX3_append_54 : decode cX3_append 54 = .ok (.iload 5, 2) := dk_21 5 (dk_at dksX3_append_2 6 rfl rfl)
theorem dX3_append_56 : decode cX3_append 56 = .ok (.iastore, 1) := dk_79 (dk_at dksX3_append_2 8 rfl rfl)
theorem dX3_append_57 : decode cX3_append 57 = .ok (.iconst 0, 1) := dk_3 (dk_at dksX3_append_2 9 rfl rfl)
theorem dX3_append_58 : decode cX3_append 58 = .ok (.istore 6, 2) := dk_54 6 (dk_at dksX3_append_2 10 rfl rfl)
theorem dX3_append_60 : decode cX3_append 60 = .ok (.iload 6, 2) := dk_21 6 (dk_at dksX3_append_2 12 rfl rfl)
theorem dX3_append_62 : decode cX3_append 62 = .ok (.bipush 20, 2) := dk_16 20 (dk_at dksX3_append_2 14 rfl rfl)
theorem dX3_append_64 : decode cX3_append 64 = .ok (.if_icmp .ge 42, 3) := dk_162 0 42 (dk_at dksX3_append_2 16 rfl rfl)
theorem dX3_append_67 : decode cX3_append 67 = .ok (.aload_n 0, 1) := dk_42 (dk_at dksX3_append_2 19 rfl rfl)
theorem dX3_append_68 : decode cX3_append 68 = .ok (.getfield 37, 3) := dk_180 0 37 (dk_at dksX3_append_2 20 rfl rfl)
theorem dX3_append_71 : decode cX3_append 71 = .ok (.aload_n 0, 1) := dk_42 (dk_at dksX3_append_2 23 rfl rfl)
theorem dX3_append_72 : decode cX3_append 72 = .ok (.getfield 114, 3) := dk_180 0 114 (dk_at dksX3_append_3 0 rfl rfl)
theorem dX3_append_75 : decode cX3_append 75 = .ok (.iload 6, 2) := dk_21 6 (dk_at dksX3_append_3 3 rfl rfl)
theorem dX3_append_77 : decode cX3_append 77 = .ok (.iadd, 1) := dk_96 (dk_at dksX3_append_3 5 rfl rfl)
theorem dX3_append_78 : decode cX3_append 78 = .ok (.aload_n 0, 1) := dk_42 (dk_at dksX3_append_3 6 rfl rfl)
theorem dX3_append_79 : decode cX3_append 79 = .ok (.getfield 41, 3) := dk_180 0 41 (dk_at dksX3_append_3 7 rfl rfl)
theorem dX3_append_82 : decode cX3_append 82 = .ok (.iload 6, 2) := dk_21 6 (dk_at dksX3_append_3 10 rfl rfl)
theorem dX3_append_84 : decode cX3_append 84 = .ok (.iconst 4, 1) := dk_7 (dk_at dksX3_append_3 12 rfl rfl)
theorem dX3_append_85 : decode cX3_append 85 = .ok (.idiv, 1) := dk_108 (dk_at dksX3_append_3 13 rfl rfl)
theorem dX3_append_86 : decode cX3_append 86 = .ok (.iaload, 1) := dk_46 (dk_at dksX3_append_3 14 rfl rfl)
theorem dX3_append_87 : decode cX3_append 87 = .ok (.bipush 24, 2) := dk_16 24 (dk_at dksX3_append_3 15 rfl rfl)
theorem dX3_append_89 : decode cX3_append 89 = .ok (.bipush 8, 2) := dk_16 8 (dk_at dksX3_append_3 17 rfl rfl)
theorem dX3_append_91 : decode cX3_append 91 = .ok (.iload 6, 2) := dk_21 6 (dk_at dksX3_append_3 19 rfl rfl)
theorem dX3_append_93 : decode cX3_append 93 = .ok (.iconst 4, 1) := dk_7 (dk_at dksX3_append_3 21 rfl rfl)
theorem dX3_append_94 : decode cX3_append 94 = .ok (.irem, 1) := dk_112 (dk_at dksX3_append_3 22 rfl rfl)
theorem dX3_append_95 : decode cX3_append 95 = .ok (.imul, 1) := dk_104 (dk_at dksX3_append_3 23 rfl rfl)
theorem dX3_append_96 : decode cX3_append 96 = .ok (.isub, 1) := dk_100 (dk_at dksX3_append_4 0 rfl rfl)
theorem dX3_append_97 : decode cX3_append 97 = .ok (.ishr, 1) := dk_122 (dk_at dksX3_append_4 1 rfl rfl)
theorem dX3_append_98 : decode cX3_append 98 = .ok (.i2b, 1) := dk_145 (dk_at dksX3_append_4 2 rfl rfl)
theorem dX3_append_99 : decode cX3_append 99 = .ok (.bastore, 1) := dk_84 (dk_at dksX3_append_4 3 rfl rfl)
theorem dX3_append_100 : decode cX3_append 100 = .ok (.iinc 6 1, 3) := dk_132 6 1 (dk_at dksX3_append_4 4 rfl rfl)
theorem dX3_append_103 : decode cX3_append 103 = .ok (.goto (-43), 3) := dk_167 255 213 (dk_at dksX3_append_4 7 rfl rfl)
theorem dX3_append_106 : decode cX3_append 106 = .ok (.aload_n 0, 1) := dk_42 (dk_at dksX3_append_4 10 rfl rfl)
theorem dX3_append_107 : decode cX3_append 107 = .ok (.dup, 1) := dk_89 (dk_at dksX3_append_4 11 rfl rfl)
theorem dX3_append_108 : decode cX3_append 108 = .ok (.getfield 114, 3) := dk_180 0 114 (dk_at dksX3_append_4 12 rfl rfl)
theorem dX3_append_111 : decode cX3_append 111 = .ok (.bipush 20, 2) := dk_16 20 (dk_at dksX3_append_4 15 rfl rfl)
theorem dX3_append_113 : decode cX3_append 113 = .ok (.iadd, 1) := dk_96 (dk_at dksX3_append_4 17 rfl rfl)
theorem dX3_append_114 : decode cX3_append 114 = .ok (.putfield 114, 3) := dk_181 0 114 (dk_at dksX3_append_4 18 rfl rfl)
theorem dX3_append_117 : decode cX3_append 117 = .ok (.aload_n 0, 1) := dk_42 (dk_at dksX3_append_4 21 rfl rfl)
theorem dX3_append_118 : decode cX3_append 118 = .ok (.getfield 114, 3) := dk_180 0 114 (dk_at dksX3_append_5 0 rfl rfl)
theorem dX3_append_121 : decode cX3_append 121 = .ok (.ireturn, 1) := dk_172 (dk_at dksX3_append_5 3 rfl rfl)
abbrev cX3_truncate : ByteArray := prog_39_method_24_code
def yX3_truncate : MethodName := ⟨RX3, "truncate", "(I)Z"⟩
def dkwX3_truncate_1 : List UInt8 := [4, 172]
abbrev dktX3_truncate_1 : List UInt8 := dkwX3_truncate_1 ++ []
def dkwX3_truncate_0 : List UInt8 := [42, 3, 181, 0, 3, 27, 155, 0, 11, 27, 42, 180, 0, 114, 164, 0, 5, 3, 172, 42, 27, 181, 0, 114]
abbrev dktX3_truncate_0 : List UInt8 := dkwX3_truncate_0 ++ dktX3_truncate_1
theorem dksX3_truncate_0 : cX3_truncate.data.toList.drop 0 = dktX3_truncate_0 := by decide +kernel
theorem dksX3_truncate_1 : cX3_truncate.data.toList.drop 24 = dktX3_truncate_1 := dk_seg dksX3_truncate_0 24 rfl rfl
theorem dX3_truncate_0 : decode cX3_truncate 0 = .ok (.aload_n 0, 1) := dk_42 (dk_at dksX3_truncate_0 0 rfl rfl)
theorem dX3_truncate_1 : decode cX3_truncate 1 = .ok (.iconst 0, 1) := dk_3 (dk_at dksX3_truncate_0 1 rfl rfl)
theorem dX3_truncate_2 : decode cX3_truncate 2 = .ok (.putfield 3, 3) := dk_181 0 3 (dk_at dksX3_truncate_0 2 rfl rfl)
theorem dX3_truncate_5 : decode cX3_truncate 5 = .ok (.iload_n 1, 1) := dk_27 (dk_at dksX3_truncate_0 5 rfl rfl)
theorem dX3_truncate_6 : decode cX3_truncate 6 = .ok (.ifCond .lt 11, 3) := dk_155 0 11 (dk_at dksX3_truncate_0 6 rfl rfl)
theorem dX3_truncate_9 : decode cX3_truncate 9 = .ok (.iload_n 1, 1) := dk_27 (dk_at dksX3_truncate_0 9 rfl rfl)
theorem dX3_truncate_10 : decode cX3_truncate 10 = .ok (.aload_n 0, 1) := dk_42 (dk_at dksX3_truncate_0 10 rfl rfl)
theorem dX3_truncate_11 : decode cX3_truncate 11 = .ok (.getfield 114, 3) := dk_180 0 114 (dk_at dksX3_truncate_0 11 rfl rfl)
theorem dX3_truncate_14 : decode cX3_truncate 14 = .ok (.if_icmp .le 5, 3) := dk_164 0 5 (dk_at dksX3_truncate_0 14 rfl rfl)
theorem dX3_truncate_17 : decode cX3_truncate 17 = .ok (.iconst 0, 1) := dk_3 (dk_at dksX3_truncate_0 17 rfl rfl)
theorem dX3_truncate_18 : decode cX3_truncate 18 = .ok (.ireturn, 1) := dk_172 (dk_at dksX3_truncate_0 18 rfl rfl)
theorem dX3_truncate_19 : decode cX3_truncate 19 = .ok (.aload_n 0, 1) := dk_42 (dk_at dksX3_truncate_0 19 rfl rfl)
theorem dX3_truncate_20 : decode cX3_truncate 20 = .ok (.iload_n 1, 1) := dk_27 (dk_at dksX3_truncate_0 20 rfl rfl)
theorem dX3_truncate_21 : decode cX3_truncate 21 = .ok (.putfield 114, 3) := dk_181 0 114 (dk_at dksX3_truncate_0 21 rfl rfl)
theorem dX3_truncate_24 : decode cX3_truncate 24 = .ok (.iconst 1, 1) := dk_4 (dk_at dksX3_truncate_1 0 rfl rfl)
theorem dX3_truncate_25 : decode cX3_truncate 25 = .ok (.ireturn, 1) := dk_172 (dk_at dksX3_truncate_1 1 rfl rfl)
abbrev cX3_errorOffset : ByteArray := prog_39_method_25_code
def yX3_errorOffset : MethodName := ⟨RX3, "errorOffset", "()I"⟩
def dkwX3_errorOffset_0 : List UInt8 := [42, 3, 181, 0, 3, 42, 180, 0, 44, 172]
abbrev dktX3_errorOffset_0 : List UInt8 := dkwX3_errorOffset_0 ++ []
theorem dksX3_errorOffset_0 : cX3_errorOffset.data.toList.drop 0 = dktX3_errorOffset_0 := by decide +kernel
theorem dX3_errorOffset_0 : decode cX3_errorOffset 0 = .ok (.aload_n 0, 1) := dk_42 (dk_at dksX3_errorOffset_0 0 rfl rfl)
theorem dX3_errorOffset_1 : decode cX3_errorOffset 1 = .ok (.iconst 0, 1) := dk_3 (dk_at dksX3_errorOffset_0 1 rfl rfl)
theorem dX3_errorOffset_2 : decode cX3_errorOffset 2 = .ok (.putfield 3, 3) := dk_181 0 3 (dk_at dksX3_errorOffset_0 2 rfl rfl)
theorem dX3_errorOffset_5 : decode cX3_errorOffset 5 = .ok (.aload_n 0, 1) := dk_42 (dk_at dksX3_errorOffset_0 5 rfl rfl)
theorem dX3_errorOffset_6 : decode cX3_errorOffset 6 = .ok (.getfield 44, 3) := dk_180 0 44 (dk_at dksX3_errorOffset_0 6 rfl rfl)
theorem dX3_errorOffset_9 : decode cX3_errorOffset 9 = .ok (.ireturn, 1) := dk_172 (dk_at dksX3_errorOffset_0 9 rfl rfl)
abbrev cX3_errorKind : ByteArray := prog_39_method_26_code
def yX3_errorKind : MethodName := ⟨RX3, "errorKind", "()I"⟩
def dkwX3_errorKind_0 : List UInt8 := [42, 3, 181, 0, 3, 42, 180, 0, 117, 172]
abbrev dktX3_errorKind_0 : List UInt8 := dkwX3_errorKind_0 ++ []
theorem dksX3_errorKind_0 : cX3_errorKind.data.toList.drop 0 = dktX3_errorKind_0 := by decide +kernel
theorem dX3_errorKind_0 : decode cX3_errorKind 0 = .ok (.aload_n 0, 1) := dk_42 (dk_at dksX3_errorKind_0 0 rfl rfl)
theorem dX3_errorKind_1 : decode cX3_errorKind 1 = .ok (.iconst 0, 1) := dk_3 (dk_at dksX3_errorKind_0 1 rfl rfl)
theorem dX3_errorKind_2 : decode cX3_errorKind 2 = .ok (.putfield 3, 3) := dk_181 0 3 (dk_at dksX3_errorKind_0 2 rfl rfl)
theorem dX3_errorKind_5 : decode cX3_errorKind 5 = .ok (.aload_n 0, 1) := dk_42 (dk_at dksX3_errorKind_0 5 rfl rfl)
theorem dX3_errorKind_6 : decode cX3_errorKind 6 = .ok (.getfield 117, 3) := dk_180 0 117 (dk_at dksX3_errorKind_0 6 rfl rfl)
theorem dX3_errorKind_9 : decode cX3_errorKind 9 = .ok (.ireturn, 1) := dk_172 (dk_at dksX3_errorKind_0 9 rfl rfl)
abbrev cX3_at : ByteArray := prog_39_method_12_code
def yX3_at : MethodName := ⟨RX3, "at", "(II)I"⟩
def dkwX3_at_0 : List UInt8 := [16, 64, 17, 0, 132, 26, 104, 96, 27, 96, 172]
abbrev dktX3_at_0 : List UInt8 := dkwX3_at_0 ++ []
theorem dksX3_at_0 : cX3_at.data.toList.drop 0 = dktX3_at_0 := by decide +kernel
theorem dX3_at_0 : decode cX3_at 0 = .ok (.bipush 64, 2) := dk_16 64 (dk_at dksX3_at_0 0 rfl rfl)
theorem dX3_at_2 : decode cX3_at 2 = .ok (.sipush 132, 3) := dk_17 0 132 (dk_at dksX3_at_0 2 rfl rfl)
theorem dX3_at_5 : decode cX3_at 5 = .ok (.iload_n 0, 1) := dk_26 (dk_at dksX3_at_0 5 rfl rfl)
theorem dX3_at_6 : decode cX3_at 6 = .ok (.imul, 1) := dk_104 (dk_at dksX3_at_0 6 rfl rfl)
theorem dX3_at_7 : decode cX3_at 7 = .ok (.iadd, 1) := dk_96 (dk_at dksX3_at_0 7 rfl rfl)
theorem dX3_at_8 : decode cX3_at 8 = .ok (.iload_n 1, 1) := dk_27 (dk_at dksX3_at_0 8 rfl rfl)
theorem dX3_at_9 : decode cX3_at 9 = .ok (.iadd, 1) := dk_96 (dk_at dksX3_at_0 9 rfl rfl)
theorem dX3_at_10 : decode cX3_at 10 = .ok (.ireturn, 1) := dk_172 (dk_at dksX3_at_0 10 rfl rfl)
abbrev cJ12_min_2 : ByteArray := prog_56_method_70_code
def yJ12_min_2 : MethodName := ⟨RJ12, "min", "(JJ)J"⟩
def dkwJ12_min_2_0 : List UInt8 := [30, 32, 148, 157, 0, 7, 30, 167, 0, 4, 32, 173]
abbrev dktJ12_min_2_0 : List UInt8 := dkwJ12_min_2_0 ++ []
theorem dksJ12_min_2_0 : cJ12_min_2.data.toList.drop 0 = dktJ12_min_2_0 := by decide +kernel
theorem dJ12_min_2_0 : decode cJ12_min_2 0 = .ok (.lload_n 0, 1) := dk_30 (dk_at dksJ12_min_2_0 0 rfl rfl)
theorem dJ12_min_2_1 : decode cJ12_min_2 1 = .ok (.lload_n 2, 1) := dk_32 (dk_at dksJ12_min_2_0 1 rfl rfl)
theorem dJ12_min_2_2 : decode cJ12_min_2 2 = .ok (.lcmp, 1) := dk_148 (dk_at dksJ12_min_2_0 2 rfl rfl)
theorem dJ12_min_2_3 : decode cJ12_min_2 3 = .ok (.ifCond .gt 7, 3) := dk_157 0 7 (dk_at dksJ12_min_2_0 3 rfl rfl)
theorem dJ12_min_2_6 : decode cJ12_min_2 6 = .ok (.lload_n 0, 1) := dk_30 (dk_at dksJ12_min_2_0 6 rfl rfl)
theorem dJ12_min_2_7 : decode cJ12_min_2 7 = .ok (.goto 4, 3) := dk_167 0 4 (dk_at dksJ12_min_2_0 7 rfl rfl)
theorem dJ12_min_2_10 : decode cJ12_min_2 10 = .ok (.lload_n 2, 1) := dk_32 (dk_at dksJ12_min_2_0 10 rfl rfl)
theorem dJ12_min_2_11 : decode cJ12_min_2 11 = .ok (.lreturn, 1) := dk_173 (dk_at dksJ12_min_2_0 11 rfl rfl)
abbrev cJ12_max_2 : ByteArray := prog_56_method_66_code
def yJ12_max_2 : MethodName := ⟨RJ12, "max", "(JJ)J"⟩
def dkwJ12_max_2_0 : List UInt8 := [30, 32, 148, 155, 0, 7, 30, 167, 0, 4, 32, 173]
abbrev dktJ12_max_2_0 : List UInt8 := dkwJ12_max_2_0 ++ []
theorem dksJ12_max_2_0 : cJ12_max_2.data.toList.drop 0 = dktJ12_max_2_0 := by decide +kernel
theorem dJ12_max_2_0 : decode cJ12_max_2 0 = .ok (.lload_n 0, 1) := dk_30 (dk_at dksJ12_max_2_0 0 rfl rfl)
theorem dJ12_max_2_1 : decode cJ12_max_2 1 = .ok (.lload_n 2, 1) := dk_32 (dk_at dksJ12_max_2_0 1 rfl rfl)
theorem dJ12_max_2_2 : decode cJ12_max_2 2 = .ok (.lcmp, 1) := dk_148 (dk_at dksJ12_max_2_0 2 rfl rfl)
theorem dJ12_max_2_3 : decode cJ12_max_2 3 = .ok (.ifCond .lt 7, 3) := dk_155 0 7 (dk_at dksJ12_max_2_0 3 rfl rfl)
theorem dJ12_max_2_6 : decode cJ12_max_2 6 = .ok (.lload_n 0, 1) := dk_30 (dk_at dksJ12_max_2_0 6 rfl rfl)
theorem dJ12_max_2_7 : decode cJ12_max_2 7 = .ok (.goto 4, 3) := dk_167 0 4 (dk_at dksJ12_max_2_0 7 rfl rfl)
theorem dJ12_max_2_10 : decode cJ12_max_2 10 = .ok (.lload_n 2, 1) := dk_32 (dk_at dksJ12_max_2_0 10 rfl rfl)
theorem dJ12_max_2_11 : decode cJ12_max_2 11 = .ok (.lreturn, 1) := dk_173 (dk_at dksJ12_max_2_0 11 rfl rfl)
abbrev cX3_of : ByteArray := prog_39_method_13_code
def yX3_of : MethodName := ⟨RX3, "of", "(II)I"⟩
def dkwX3_of_0 : List UInt8 := [42, 180, 0, 13, 27, 28, 184, 0, 63, 46, 172]
abbrev dktX3_of_0 : List UInt8 := dkwX3_of_0 ++ []
theorem dksX3_of_0 : cX3_of.data.toList.drop 0 = dktX3_of_0 := by decide +kernel
theorem dX3_of_0 : decode cX3_of 0 = .ok (.aload_n 0, 1) := dk_42 (dk_at dksX3_of_0 0 rfl rfl)
theorem dX3_of_1 : decode cX3_of 1 = .ok (.getfield 13, 3) := dk_180 0 13 (dk_at dksX3_of_0 1 rfl rfl)
theorem dX3_of_4 : decode cX3_of 4 = .ok (.iload_n 1, 1) := dk_27 (dk_at dksX3_of_0 4 rfl rfl)
theorem dX3_of_5 : decode cX3_of 5 = .ok (.iload_n 2, 1) := dk_28 (dk_at dksX3_of_0 5 rfl rfl)
theorem dX3_of_6 : decode cX3_of 6 = .ok (.invokestatic 63, 3) := dk_184 0 63 (dk_at dksX3_of_0 6 rfl rfl)
theorem dX3_of_9 : decode cX3_of 9 = .ok (.iaload, 1) := dk_46 (dk_at dksX3_of_0 9 rfl rfl)
theorem dX3_of_10 : decode cX3_of 10 = .ok (.ireturn, 1) := dk_172 (dk_at dksX3_of_0 10 rfl rfl)
abbrev cX3_oldest : ByteArray := prog_39_method_14_code
def yX3_oldest : MethodName := ⟨RX3, "oldest", "(I)I"⟩
def dkwX3_oldest_0 : List UInt8 := [42, 27, 4, 182, 0, 67, 172]
abbrev dktX3_oldest_0 : List UInt8 := dkwX3_oldest_0 ++ []
theorem dksX3_oldest_0 : cX3_oldest.data.toList.drop 0 = dktX3_oldest_0 := by decide +kernel
theorem dX3_oldest_0 : decode cX3_oldest 0 = .ok (.aload_n 0, 1) := dk_42 (dk_at dksX3_oldest_0 0 rfl rfl)
theorem dX3_oldest_1 : decode cX3_oldest 1 = .ok (.iload_n 1, 1) := dk_27 (dk_at dksX3_oldest_0 1 rfl rfl)
theorem dX3_oldest_2 : decode cX3_oldest 2 = .ok (.iconst 1, 1) := dk_4 (dk_at dksX3_oldest_0 2 rfl rfl)
theorem dX3_oldest_3 : decode cX3_oldest 3 = .ok (.invokevirtual 67, 3) := dk_182 0 67 (dk_at dksX3_oldest_0 3 rfl rfl)
theorem dX3_oldest_6 : decode cX3_oldest 6 = .ok (.ireturn, 1) := dk_172 (dk_at dksX3_oldest_0 6 rfl rfl)
abbrev cX3_cohortOf : ByteArray := prog_39_method_15_code
def yX3_cohortOf : MethodName := ⟨RX3, "cohortOf", "(II)I"⟩
def dkwX3_cohortOf_0 : List UInt8 := [42, 27, 16, 39, 28, 96, 182, 0, 67, 172]
abbrev dktX3_cohortOf_0 : List UInt8 := dkwX3_cohortOf_0 ++ []
theorem dksX3_cohortOf_0 : cX3_cohortOf.data.toList.drop 0 = dktX3_cohortOf_0 := by decide +kernel
theorem dX3_cohortOf_0 : decode cX3_cohortOf 0 = .ok (.aload_n 0, 1) := dk_42 (dk_at dksX3_cohortOf_0 0 rfl rfl)
theorem dX3_cohortOf_1 : decode cX3_cohortOf 1 = .ok (.iload_n 1, 1) := dk_27 (dk_at dksX3_cohortOf_0 1 rfl rfl)
theorem dX3_cohortOf_2 : decode cX3_cohortOf 2 = .ok (.bipush 39, 2) := dk_16 39 (dk_at dksX3_cohortOf_0 2 rfl rfl)
theorem dX3_cohortOf_4 : decode cX3_cohortOf 4 = .ok (.iload_n 2, 1) := dk_28 (dk_at dksX3_cohortOf_0 4 rfl rfl)
theorem dX3_cohortOf_5 : decode cX3_cohortOf 5 = .ok (.iadd, 1) := dk_96 (dk_at dksX3_cohortOf_0 5 rfl rfl)
theorem dX3_cohortOf_6 : decode cX3_cohortOf 6 = .ok (.invokevirtual 67, 3) := dk_182 0 67 (dk_at dksX3_cohortOf_0 6 rfl rfl)
theorem dX3_cohortOf_9 : decode cX3_cohortOf 9 = .ok (.ireturn, 1) := dk_172 (dk_at dksX3_cohortOf_0 9 rfl rfl)
abbrev cX3_totalOf : ByteArray := prog_39_method_16_code
def yX3_totalOf : MethodName := ⟨RX3, "totalOf", "(I)I"⟩
def dkwX3_totalOf_1 : List UInt8 := [132, 3, 1, 167, 255, 235, 28, 172]
abbrev dktX3_totalOf_1 : List UInt8 := dkwX3_totalOf_1 ++ []
def dkwX3_totalOf_0 : List UInt8 := [3, 61, 3, 62, 29, 42, 27, 182, 0, 70, 163, 0, 18, 28, 42, 27, 29, 182, 0, 74, 96, 61]
abbrev dktX3_totalOf_0 : List UInt8 := dkwX3_totalOf_0 ++ dktX3_totalOf_1
theorem dksX3_totalOf_0 : cX3_totalOf.data.toList.drop 0 = dktX3_totalOf_0 := by decide +kernel
theorem dksX3_totalOf_1 : cX3_totalOf.data.toList.drop 22 = dktX3_totalOf_1 := dk_seg dksX3_totalOf_0 22 rfl rfl
theorem dX3_totalOf_0 : decode cX3_totalOf 0 = .ok (.iconst 0, 1) := dk_3 (dk_at dksX3_totalOf_0 0 rfl rfl)
theorem dX3_totalOf_1 : decode cX3_totalOf 1 = .ok (.istore_n 2, 1) := dk_61 (dk_at dksX3_totalOf_0 1 rfl rfl)
theorem dX3_totalOf_2 : decode cX3_totalOf 2 = .ok (.iconst 0, 1) := dk_3 (dk_at dksX3_totalOf_0 2 rfl rfl)
theorem dX3_totalOf_3 : decode cX3_totalOf 3 = .ok (.istore_n 3, 1) := dk_62 (dk_at dksX3_totalOf_0 3 rfl rfl)
theorem dX3_totalOf_4 : decode cX3_totalOf 4 = .ok (.iload_n 3, 1) := dk_29 (dk_at dksX3_totalOf_0 4 rfl rfl)
theorem dX3_totalOf_5 : decode cX3_totalOf 5 = .ok (.aload_n 0, 1) := dk_42 (dk_at dksX3_totalOf_0 5 rfl rfl)
theorem dX3_totalOf_6 : decode cX3_totalOf 6 = .ok (.iload_n 1, 1) := dk_27 (dk_at dksX3_totalOf_0 6 rfl rfl)
theorem dX3_totalOf_7 : decode cX3_totalOf 7 = .ok (.invokevirtual 70, 3) := dk_182 0 70 (dk_at dksX3_totalOf_0 7 rfl rfl)
theorem dX3_totalOf_10 : decode cX3_totalOf 10 = .ok (.if_icmp .gt 18, 3) := dk_163 0 18 (dk_at dksX3_totalOf_0 10 rfl rfl)
theorem dX3_totalOf_13 : decode cX3_totalOf 13 = .ok (.iload_n 2, 1) := dk_28 (dk_at dksX3_totalOf_0 13 rfl rfl)
theorem dX3_totalOf_14 : decode cX3_totalOf 14 = .ok (.aload_n 0, 1) := dk_42 (dk_at dksX3_totalOf_0 14 rfl rfl)
theorem dX3_totalOf_15 : decode cX3_totalOf 15 = .ok (.iload_n 1, 1) := dk_27 (dk_at dksX3_totalOf_0 15 rfl rfl)
theorem dX3_totalOf_16 : decode cX3_totalOf 16 = .ok (.iload_n 3, 1) := dk_29 (dk_at dksX3_totalOf_0 16 rfl rfl)
theorem dX3_totalOf_17 : decode cX3_totalOf 17 = .ok (.invokevirtual 74, 3) := dk_182 0 74 (dk_at dksX3_totalOf_0 17 rfl rfl)
theorem dX3_totalOf_20 : decode cX3_totalOf 20 = .ok (.iadd, 1) := dk_96 (dk_at dksX3_totalOf_0 20 rfl rfl)
theorem dX3_totalOf_21 : decode cX3_totalOf 21 = .ok (.istore_n 2, 1) := dk_61 (dk_at dksX3_totalOf_0 21 rfl rfl)
theorem dX3_totalOf_22 : decode cX3_totalOf 22 = .ok (.iinc 3 1, 3) := dk_132 3 1 (dk_at dksX3_totalOf_1 0 rfl rfl)
theorem dX3_totalOf_25 : decode cX3_totalOf 25 = .ok (.goto (-21), 3) := dk_167 255 235 (dk_at dksX3_totalOf_1 3 rfl rfl)
theorem dX3_totalOf_28 : decode cX3_totalOf 28 = .ok (.iload_n 2, 1) := dk_28 (dk_at dksX3_totalOf_1 6 rfl rfl)
theorem dX3_totalOf_29 : decode cX3_totalOf 29 = .ok (.ireturn, 1) := dk_172 (dk_at dksX3_totalOf_1 7 rfl rfl)
abbrev cX3_adultsOf : ByteArray := prog_39_method_17_code
def yX3_adultsOf : MethodName := ⟨RX3, "adultsOf", "(I)I"⟩
def dkwX3_adultsOf_1 : List UInt8 := [182, 0, 74, 96, 61, 132, 3, 1, 167, 255, 235, 28, 172]
abbrev dktX3_adultsOf_1 : List UInt8 := dkwX3_adultsOf_1 ++ []
def dkwX3_adultsOf_0 : List UInt8 := [3, 61, 42, 27, 5, 182, 0, 67, 62, 29, 42, 27, 182, 0, 70, 163, 0, 18, 28, 42, 27, 29]
abbrev dktX3_adultsOf_0 : List UInt8 := dkwX3_adultsOf_0 ++ dktX3_adultsOf_1
theorem dksX3_adultsOf_0 : cX3_adultsOf.data.toList.drop 0 = dktX3_adultsOf_0 := by decide +kernel
theorem dksX3_adultsOf_1 : cX3_adultsOf.data.toList.drop 22 = dktX3_adultsOf_1 := dk_seg dksX3_adultsOf_0 22 rfl rfl
theorem dX3_adultsOf_0 : decode cX3_adultsOf 0 = .ok (.iconst 0, 1) := dk_3 (dk_at dksX3_adultsOf_0 0 rfl rfl)
theorem dX3_adultsOf_1 : decode cX3_adultsOf 1 = .ok (.istore_n 2, 1) := dk_61 (dk_at dksX3_adultsOf_0 1 rfl rfl)
theorem dX3_adultsOf_2 : decode cX3_adultsOf 2 = .ok (.aload_n 0, 1) := dk_42 (dk_at dksX3_adultsOf_0 2 rfl rfl)
theorem dX3_adultsOf_3 : decode cX3_adultsOf 3 = .ok (.iload_n 1, 1) := dk_27 (dk_at dksX3_adultsOf_0 3 rfl rfl)
theorem dX3_adultsOf_4 : decode cX3_adultsOf 4 = .ok (.iconst 2, 1) := dk_5 (dk_at dksX3_adultsOf_0 4 rfl rfl)
theorem dX3_adultsOf_5 : decode cX3_adultsOf 5 = .ok (.invokevirtual 67, 3) := dk_182 0 67 (dk_at dksX3_adultsOf_0 5 rfl rfl)
theorem dX3_adultsOf_8 : decode cX3_adultsOf 8 = .ok (.istore_n 3, 1) := dk_62 (dk_at dksX3_adultsOf_0 8 rfl rfl)
theorem dX3_adultsOf_9 : decode cX3_adultsOf 9 = .ok (.iload_n 3, 1) := dk_29 (dk_at dksX3_adultsOf_0 9 rfl rfl)
theorem dX3_adultsOf_10 : decode cX3_adultsOf 10 = .ok (.aload_n 0, 1) := dk_42 (dk_at dksX3_adultsOf_0 10 rfl rfl)
theorem dX3_adultsOf_11 : decode cX3_adultsOf 11 = .ok (.iload_n 1, 1) := dk_27 (dk_at dksX3_adultsOf_0 11 rfl rfl)
theorem dX3_adultsOf_12 : decode cX3_adultsOf 12 = .ok (.invokevirtual 70, 3) := dk_182 0 70 (dk_at dksX3_adultsOf_0 12 rfl rfl)
theorem dX3_adultsOf_15 : decode cX3_adultsOf 15 = .ok (.if_icmp .gt 18, 3) := dk_163 0 18 (dk_at dksX3_adultsOf_0 15 rfl rfl)
theorem dX3_adultsOf_18 : decode cX3_adultsOf 18 = .ok (.iload_n 2, 1) := dk_28 (dk_at dksX3_adultsOf_0 18 rfl rfl)
theorem dX3_adultsOf_19 : decode cX3_adultsOf 19 = .ok (.aload_n 0, 1) := dk_42 (dk_at dksX3_adultsOf_0 19 rfl rfl)
theorem dX3_adultsOf_20 : decode cX3_adultsOf 20 = .ok (.iload_n 1, 1) := dk_27 (dk_at dksX3_adultsOf_0 20 rfl rfl)
theorem dX3_adultsOf_21 : decode cX3_adultsOf 21 = .ok (.iload_n 3, 1) := dk_29 (dk_at dksX3_adultsOf_0 21 rfl rfl)
theorem dX3_adultsOf_22 : decode cX3_adultsOf 22 = .ok (.invokevirtual 74, 3) := dk_182 0 74 (dk_at dksX3_adultsOf_1 0 rfl rfl)
theorem dX3_adultsOf_25 : decode cX3_adultsOf 25 = .ok (.iadd, 1) := dk_96 (dk_at dksX3_adultsOf_1 3 rfl rfl)
theorem dX3_adultsOf_26 : decode cX3_adultsOf 26 = .ok (.istore_n 2, 1) := dk_61 (dk_at dksX3_adultsOf_1 4 rfl rfl)
theorem dX3_adultsOf_27 : decode cX3_adultsOf 27 = .ok (.iinc 3 1, 3) := dk_132 3 1 (dk_at dksX3_adultsOf_1 5 rfl rfl)
theorem dX3_adultsOf_30 : decode cX3_adultsOf 30 = .ok (.goto (-21), 3) := dk_167 255 235 (dk_at dksX3_adultsOf_1 8 rfl rfl)
theorem dX3_adultsOf_33 : decode cX3_adultsOf 33 = .ok (.iload_n 2, 1) := dk_28 (dk_at dksX3_adultsOf_1 11 rfl rfl)
theorem dX3_adultsOf_34 : decode cX3_adultsOf 34 = .ok (.ireturn, 1) := dk_172 (dk_at dksX3_adultsOf_1 12 rfl rfl)
abbrev cX3_limited : ByteArray := prog_39_method_19_code
def yX3_limited : MethodName := ⟨RX3, "limited", "(J)J"⟩
def dkwX3_limited_0 : List UInt8 := [20, 0, 82, 20, 0, 84, 30, 184, 0, 86, 184, 0, 90, 173]
abbrev dktX3_limited_0 : List UInt8 := dkwX3_limited_0 ++ []
theorem dksX3_limited_0 : cX3_limited.data.toList.drop 0 = dktX3_limited_0 := by decide +kernel
theorem dX3_limited_0 : decode cX3_limited 0 = .ok (.ldc2_w 82, 3) := dk_20 0 82 (dk_at dksX3_limited_0 0 rfl rfl)
theorem dX3_limited_3 : decode cX3_limited 3 = .ok (.ldc2_w 84, 3) := dk_20 0 84 (dk_at dksX3_limited_0 3 rfl rfl)
theorem dX3_limited_6 : decode cX3_limited 6 = .ok (.lload_n 0, 1) := dk_30 (dk_at dksX3_limited_0 6 rfl rfl)
theorem dX3_limited_7 : decode cX3_limited 7 = .ok (.invokestatic 86, 3) := dk_184 0 86 (dk_at dksX3_limited_0 7 rfl rfl)
theorem dX3_limited_10 : decode cX3_limited 10 = .ok (.invokestatic 90, 3) := dk_184 0 90 (dk_at dksX3_limited_0 10 rfl rfl)
theorem dX3_limited_13 : decode cX3_limited 13 = .ok (.lreturn, 1) := dk_173 (dk_at dksX3_limited_0 13 rfl rfl)
abbrev cX3_worked : ByteArray := prog_39_method_20_code
def yX3_worked : MethodName := ⟨RX3, "worked", "(IJJ)J"⟩
def dkwX3_worked_5 : List UInt8 := [184, 0, 86, 173, 32, 22, 4, 184, 0, 90, 173]
abbrev dktX3_worked_5 : List UInt8 := dkwX3_worked_5 ++ []
def dkwX3_worked_4 : List UInt8 := [22, 4, 9, 148, 154, 0, 7, 9, 167, 0, 10, 32, 22, 4, 109, 184, 0, 92, 173, 32, 22, 4]
abbrev dktX3_worked_4 : List UInt8 := dkwX3_worked_4 ++ dktX3_worked_5
def dkwX3_worked_3 : List UInt8 := [42, 42, 180, 0, 96, 154, 0, 10, 22, 4, 9, 148, 154, 0, 7, 4, 167, 0, 4, 3, 181, 0, 96]
abbrev dktX3_worked_3 : List UInt8 := dkwX3_worked_3 ++ dktX3_worked_4
def dkwX3_worked_2 : List UInt8 := [32, 22, 4, 97, 184, 0, 92, 173, 32, 22, 4, 101, 184, 0, 92, 173, 32, 22, 4, 105, 184, 0, 92, 173]
abbrev dktX3_worked_2 : List UInt8 := dkwX3_worked_2 ++ dktX3_worked_3
def dkwX3_worked_1 : List UInt8 := [170, 0, 0, 0, 0, 0, 108, 0, 0, 0, 5, 0, 0, 0, 9, 0, 0, 0, 35, 0, 0, 0, 43, 0, 0, 0, 51, 0, 0, 0, 59, 0, 0, 0, 101]
abbrev dktX3_worked_1 : List UInt8 := dkwX3_worked_1 ++ dktX3_worked_2
def dkwX3_worked_0 : List UInt8 := [27]
abbrev dktX3_worked_0 : List UInt8 := dkwX3_worked_0 ++ dktX3_worked_1
theorem dksX3_worked_0 : cX3_worked.data.toList.drop 0 = dktX3_worked_0 := by decide +kernel
theorem dksX3_worked_1 : cX3_worked.data.toList.drop 1 = dktX3_worked_1 := dk_seg dksX3_worked_0 1 rfl rfl
theorem dksX3_worked_2 : cX3_worked.data.toList.drop 36 = dktX3_worked_2 := dk_seg dksX3_worked_1 35 rfl rfl
theorem dksX3_worked_3 : cX3_worked.data.toList.drop 60 = dktX3_worked_3 := dk_seg dksX3_worked_2 24 rfl rfl
theorem dksX3_worked_4 : cX3_worked.data.toList.drop 83 = dktX3_worked_4 := dk_seg dksX3_worked_3 23 rfl rfl
theorem dksX3_worked_5 : cX3_worked.data.toList.drop 105 = dktX3_worked_5 := dk_seg dksX3_worked_4 22 rfl rfl
theorem dX3_worked_0 : decode cX3_worked 0 = .ok (.iload_n 1, 1) := dk_27 (dk_at dksX3_worked_0 0 rfl rfl)
theorem dX3_worked_1 : decode cX3_worked 1 = .ok (.tableswitch 108 5 9 #[35, 43, 51, 59, 101], 35) := by decide +kernel
theorem dX3_worked_36 : decode cX3_worked 36 = .ok (.lload_n 2, 1) := dk_32 (dk_at dksX3_worked_2 0 rfl rfl)
theorem dX3_worked_37 : decode cX3_worked 37 = .ok (.lload 4, 2) := dk_22 4 (dk_at dksX3_worked_2 1 rfl rfl)
theorem dX3_worked_39 : decode cX3_worked 39 = .ok (.ladd, 1) := dk_97 (dk_at dksX3_worked_2 3 rfl rfl)
theorem dX3_worked_40 : decode cX3_worked 40 = .ok (.invokestatic 92, 3) := dk_184 0 92 (dk_at dksX3_worked_2 4 rfl rfl)
theorem dX3_worked_43 : decode cX3_worked 43 = .ok (.lreturn, 1) := dk_173 (dk_at dksX3_worked_2 7 rfl rfl)
theorem dX3_worked_44 : decode cX3_worked 44 = .ok (.lload_n 2, 1) := dk_32 (dk_at dksX3_worked_2 8 rfl rfl)
theorem dX3_worked_45 : decode cX3_worked 45 = .ok (.lload 4, 2) := dk_22 4 (dk_at dksX3_worked_2 9 rfl rfl)
theorem dX3_worked_47 : decode cX3_worked 47 = .ok (.lsub, 1) := dk_101 (dk_at dksX3_worked_2 11 rfl rfl)
theorem dX3_worked_48 : decode cX3_worked 48 = .ok (.invokestatic 92, 3) := dk_184 0 92 (dk_at dksX3_worked_2 12 rfl rfl)
theorem dX3_worked_51 : decode cX3_worked 51 = .ok (.lreturn, 1) := dk_173 (dk_at dksX3_worked_2 15 rfl rfl)
theorem dX3_worked_52 : decode cX3_worked 52 = .ok (.lload_n 2, 1) := dk_32 (dk_at dksX3_worked_2 16 rfl rfl)
theorem dX3_worked_53 : decode cX3_worked 53 = .ok (.lload 4, 2) := dk_22 4 (dk_at dksX3_worked_2 17 rfl rfl)
theorem dX3_worked_55 : decode cX3_worked 55 = .ok (.lmul, 1) := dk_105 (dk_at dksX3_worked_2 19 rfl rfl)
theorem dX3_worked_56 : decode cX3_worked 56 = .ok (.invokestatic 92, 3) := dk_184 0 92 (dk_at dksX3_worked_2 20 rfl rfl)
theorem dX3_worked_59 : decode cX3_worked 59 = .ok (.lreturn, 1) := dk_173 (dk_at dksX3_worked_2 23 rfl rfl)
theorem dX3_worked_60 : decode cX3_worked 60 = .ok (.aload_n 0, 1) := dk_42 (dk_at dksX3_worked_3 0 rfl rfl)
theorem dX3_worked_61 : decode cX3_worked 61 = .ok (.aload_n 0, 1) := dk_42 (dk_at dksX3_worked_3 1 rfl rfl)
theorem dX3_worked_62 : decode cX3_worked 62 = .ok (.getfield 96, 3) := dk_180 0 96 (dk_at dksX3_worked_3 2 rfl rfl)
theorem dX3_worked_65 : decode cX3_worked 65 = .ok (.ifCond .ne 10, 3) := dk_154 0 10 (dk_at dksX3_worked_3 5 rfl rfl)
theorem dX3_worked_68 : decode cX3_worked 68 = .ok (.lload 4, 2) := dk_22 4 (dk_at dksX3_worked_3 8 rfl rfl)
theorem dX3_worked_70 : decode cX3_worked 70 = .ok (.lconst 0, 1) := dk_9 (dk_at dksX3_worked_3 10 rfl rfl)
theorem dX3_worked_71 : decode cX3_worked 71 = .ok (.lcmp, 1) := dk_148 (dk_at dksX3_worked_3 11 rfl rfl)
theorem dX3_worked_72 : decode cX3_worked 72 = .ok (.ifCond .ne 7, 3) := dk_154 0 7 (dk_at dksX3_worked_3 12 rfl rfl)
theorem dX3_worked_75 : decode cX3_worked 75 = .ok (.iconst 1, 1) := dk_4 (dk_at dksX3_worked_3 15 rfl rfl)
theorem dX3_worked_76 : decode cX3_worked 76 = .ok (.goto 4, 3) := dk_167 0 4 (dk_at dksX3_worked_3 16 rfl rfl)
theorem dX3_worked_79 : decode cX3_worked 79 = .ok (.iconst 0, 1) := dk_3 (dk_at dksX3_worked_3 19 rfl rfl)
theorem dX3_worked_80 : decode cX3_worked 80 = .ok (.putfield 96, 3) := dk_181 0 96 (dk_at dksX3_worked_3 20 rfl rfl)
theorem dX3_worked_83 : decode cX3_worked 83 = .ok (.lload 4, 2) := dk_22 4 (dk_at dksX3_worked_4 0 rfl rfl)
theorem dX3_worked_85 : decode cX3_worked 85 = .ok (.lconst 0, 1) := dk_9 (dk_at dksX3_worked_4 2 rfl rfl)
theorem dX3_worked_86 : decode cX3_worked 86 = .ok (.lcmp, 1) := dk_148 (dk_at dksX3_worked_4 3 rfl rfl)
theorem dX3_worked_87 : decode cX3_worked 87 = .ok (.ifCond .ne 7, 3) := dk_154 0 7 (dk_at dksX3_worked_4 4 rfl rfl)
theorem dX3_worked_90 : decode cX3_worked 90 = .ok (.lconst 0, 1) := dk_9 (dk_at dksX3_worked_4 7 rfl rfl)
theorem dX3_worked_91 : decode cX3_worked 91 = .ok (.goto 10, 3) := dk_167 0 10 (dk_at dksX3_worked_4 8 rfl rfl)
theorem dX3_worked_94 : decode cX3_worked 94 = .ok (.lload_n 2, 1) := dk_32 (dk_at dksX3_worked_4 11 rfl rfl)
theorem dX3_worked_95 : decode cX3_worked 95 = .ok (.lload 4, 2) := dk_22 4 (dk_at dksX3_worked_4 12 rfl rfl)
theorem dX3_worked_97 : decode cX3_worked 97 = .ok (.ldiv, 1) := dk_109 (dk_at dksX3_worked_4 14 rfl rfl)
theorem dX3_worked_98 : decode cX3_worked 98 = .ok (.invokestatic 92, 3) := dk_184 0 92 (dk_at dksX3_worked_4 15 rfl rfl)
theorem dX3_worked_101 : decode cX3_worked 101 = .ok (.lreturn, 1) := dk_173 (dk_at dksX3_worked_4 18 rfl rfl)
theorem dX3_worked_102 : decode cX3_worked 102 = .ok (.lload_n 2, 1) := dk_32 (dk_at dksX3_worked_4 19 rfl rfl)
theorem dX3_worked_103 : decode cX3_worked 103 = .ok (.lload 4, 2) := dk_22 4 (dk_at dksX3_worked_4 20 rfl rfl)
theorem dX3_worked_105 : decode cX3_worked 105 = .ok (.invokestatic 86, 3) := dk_184 0 86 (dk_at dksX3_worked_5 0 rfl rfl)
theorem dX3_worked_108 : decode cX3_worked 108 = .ok (.lreturn, 1) := dk_173 (dk_at dksX3_worked_5 3 rfl rfl)
theorem dX3_worked_109 : decode cX3_worked 109 = .ok (.lload_n 2, 1) := dk_32 (dk_at dksX3_worked_5 4 rfl rfl)
theorem dX3_worked_110 : decode cX3_worked 110 = .ok (.lload 4, 2) := dk_22 4 (dk_at dksX3_worked_5 5 rfl rfl)
theorem dX3_worked_112 : decode cX3_worked 112 = .ok (.invokestatic 90, 3) := dk_184 0 90 (dk_at dksX3_worked_5 7 rfl rfl)
theorem dX3_worked_115 : decode cX3_worked 115 = .ok (.lreturn, 1) := dk_173 (dk_at dksX3_worked_5 10 rfl rfl)
abbrev cX3_valueOf : ByteArray := prog_39_method_21_code
def yX3_valueOf : MethodName := ⟨RX3, "valueOf", "(I)J"⟩
def dkwX3_valueOf_8 : List UInt8 := [180, 0, 33, 3, 47, 173]
abbrev dktX3_valueOf_8 : List UInt8 := dkwX3_valueOf_8 ++ []
def dkwX3_valueOf_7 : List UInt8 := [132, 3, 1, 132, 4, 1, 167, 255, 103, 42, 180, 0, 27, 28, 46, 154, 0, 7, 9, 167, 0, 9, 42]
abbrev dktX3_valueOf_7 : List UInt8 := dkwX3_valueOf_7 ++ dktX3_valueOf_8
def dkwX3_valueOf_6 : List UInt8 := [6, 160, 0, 13, 42, 27, 3, 182, 0, 74, 133, 167, 0, 10, 42, 180, 0, 13, 4, 46, 133, 80]
abbrev dktX3_valueOf_6 : List UInt8 := dkwX3_valueOf_6 ++ dktX3_valueOf_7
def dkwX3_valueOf_5 : List UInt8 := [182, 0, 104, 133, 167, 0, 41, 21, 5, 5, 160, 0, 12, 42, 27, 182, 0, 107, 133, 167, 0, 26, 21, 5]
abbrev dktX3_valueOf_5 : List UInt8 := dkwX3_valueOf_5 ++ dktX3_valueOf_6
def dkwX3_valueOf_4 : List UInt8 := [154, 0, 16, 42, 180, 0, 27, 28, 21, 4, 96, 46, 133, 167, 0, 56, 21, 5, 4, 160, 0, 12, 42, 27]
abbrev dktX3_valueOf_4 : List UInt8 := dkwX3_valueOf_4 ++ dktX3_valueOf_5
def dkwX3_valueOf_3 : List UInt8 := [182, 0, 100, 80, 167, 0, 91, 21, 5, 154, 0, 6, 132, 4, 1, 42, 180, 0, 33, 29, 21, 5]
abbrev dktX3_valueOf_3 : List UInt8 := dkwX3_valueOf_3 ++ dktX3_valueOf_4
def dkwX3_valueOf_2 : List UInt8 := [180, 0, 33, 29, 4, 100, 42, 21, 5, 42, 180, 0, 33, 29, 4, 100, 47, 42, 180, 0, 33, 29, 47]
abbrev dktX3_valueOf_2 : List UInt8 := dkwX3_valueOf_2 ++ dktX3_valueOf_3
def dkwX3_valueOf_1 : List UInt8 := [163, 0, 148, 42, 180, 0, 27, 28, 21, 4, 96, 46, 54, 5, 21, 5, 8, 161, 0, 37, 132, 3, 255, 42]
abbrev dktX3_valueOf_1 : List UInt8 := dkwX3_valueOf_1 ++ dktX3_valueOf_2
def dkwX3_valueOf_0 : List UInt8 := [17, 5, 121, 27, 104, 61, 3, 62, 42, 3, 181, 0, 96, 4, 54, 4, 21, 4, 42, 180, 0, 27, 28, 46]
abbrev dktX3_valueOf_0 : List UInt8 := dkwX3_valueOf_0 ++ dktX3_valueOf_1
theorem dksX3_valueOf_0 : cX3_valueOf.data.toList.drop 0 = dktX3_valueOf_0 := by decide +kernel
theorem dksX3_valueOf_1 : cX3_valueOf.data.toList.drop 24 = dktX3_valueOf_1 := dk_seg dksX3_valueOf_0 24 rfl rfl
theorem dksX3_valueOf_2 : cX3_valueOf.data.toList.drop 48 = dktX3_valueOf_2 := dk_seg dksX3_valueOf_1 24 rfl rfl
theorem dksX3_valueOf_3 : cX3_valueOf.data.toList.drop 71 = dktX3_valueOf_3 := dk_seg dksX3_valueOf_2 23 rfl rfl
theorem dksX3_valueOf_4 : cX3_valueOf.data.toList.drop 93 = dktX3_valueOf_4 := dk_seg dksX3_valueOf_3 22 rfl rfl
theorem dksX3_valueOf_5 : cX3_valueOf.data.toList.drop 117 = dktX3_valueOf_5 := dk_seg dksX3_valueOf_4 24 rfl rfl
theorem dksX3_valueOf_6 : cX3_valueOf.data.toList.drop 141 = dktX3_valueOf_6 := dk_seg dksX3_valueOf_5 24 rfl rfl
theorem dksX3_valueOf_7 : cX3_valueOf.data.toList.drop 163 = dktX3_valueOf_7 := dk_seg dksX3_valueOf_6 22 rfl rfl
theorem dksX3_valueOf_8 : cX3_valueOf.data.toList.drop 186 = dktX3_valueOf_8 := dk_seg dksX3_valueOf_7 23 rfl rfl
theorem dX3_valueOf_0 : decode cX3_valueOf 0 = .ok (.sipush 1401, 3) := dk_17 5 121 (dk_at dksX3_valueOf_0 0 rfl rfl)
theorem dX3_valueOf_3 : decode cX3_valueOf 3 = .ok (.iload_n 1, 1) := dk_27 (dk_at dksX3_valueOf_0 3 rfl rfl)
theorem dX3_valueOf_4 : decode cX3_valueOf 4 = .ok (.imul, 1) := dk_104 (dk_at dksX3_valueOf_0 4 rfl rfl)
theorem dX3_valueOf_5 : decode cX3_valueOf 5 = .ok (.istore_n 2, 1) := dk_61 (dk_at dksX3_valueOf_0 5 rfl rfl)
theorem dX3_valueOf_6 : decode cX3_valueOf 6 = .ok (.iconst 0, 1) := dk_3 (dk_at dksX3_valueOf_0 6 rfl rfl)
theorem dX3_valueOf_7 : decode cX3_valueOf 7 = .ok (.istore_n 3, 1) := dk_62 (dk_at dksX3_valueOf_0 7 rfl rfl)
theorem dX3_valueOf_8 : decode cX3_valueOf 8 = .ok (.aload_n 0, 1) := dk_42 (dk_at dksX3_valueOf_0 8 rfl rfl)
theorem dX3_valueOf_9 : decode cX3_valueOf 9 = .ok (.iconst 0, 1) := dk_3 (dk_at dksX3_valueOf_0 9 rfl rfl)
theorem dX3_valueOf_10 : decode cX3_valueOf 10 = .ok (.putfield 96, 3) := dk_181 0 96 (dk_at dksX3_valueOf_0 10 rfl rfl)
theorem dX3_valueOf_13 : decode cX3_valueOf 13 = .ok (.iconst 1, 1) := dk_4 (dk_at dksX3_valueOf_0 13 rfl rfl)
theorem dX3_valueOf_14 : decode cX3_valueOf 14 = .ok (.istore 4, 2) := dk_54 4 (dk_at dksX3_valueOf_0 14 rfl rfl)
theorem dX3_valueOf_16 : decode cX3_valueOf 16 = .ok (.iload 4, 2) := dk_21 4 (dk_at dksX3_valueOf_0 16 rfl rfl)
theorem dX3_valueOf_18 : decode cX3_valueOf 18 = .ok (.aload_n 0, 1) := dk_42 (dk_at dksX3_valueOf_0 18 rfl rfl)
theorem dX3_valueOf_19 : decode cX3_valueOf 19 = .ok (.getfield 27, 3) := dk_180 0 27 (dk_at dksX3_valueOf_0 19 rfl rfl)
theorem dX3_valueOf_22 : decode cX3_valueOf 22 = .ok (.iload_n 2, 1) := dk_28 (dk_at dksX3_valueOf_0 22 rfl rfl)
theorem dX3_valueOf_23 : decode cX3_valueOf 23 = .ok (.iaload, 1) := dk_46 (dk_at dksX3_valueOf_0 23 rfl rfl)
theorem dX3_valueOf_24 : decode cX3_valueOf 24 = .ok (.if_icmp .gt 148, 3) := dk_163 0 148 (dk_at dksX3_valueOf_1 0 rfl rfl)
theorem dX3_valueOf_27 : decode cX3_valueOf 27 = .ok (.aload_n 0, 1) := dk_42 (dk_at dksX3_valueOf_1 3 rfl rfl)
theorem dX3_valueOf_28 : decode cX3_valueOf 28 = .ok (.getfield 27, 3) := dk_180 0 27 (dk_at dksX3_valueOf_1 4 rfl rfl)
theorem dX3_valueOf_31 : decode cX3_valueOf 31 = .ok (.iload_n 2, 1) := dk_28 (dk_at dksX3_valueOf_1 7 rfl rfl)
theorem dX3_valueOf_32 : decode cX3_valueOf 32 = .ok (.iload 4, 2) := dk_21 4 (dk_at dksX3_valueOf_1 8 rfl rfl)
theorem dX3_valueOf_34 : decode cX3_valueOf 34 = .ok (.iadd, 1) := dk_96 (dk_at dksX3_valueOf_1 10 rfl rfl)
theorem dX3_valueOf_35 : decode cX3_valueOf 35 = .ok (.iaload, 1) := dk_46 (dk_at dksX3_valueOf_1 11 rfl rfl)
theorem dX3_valueOf_36 : decode cX3_valueOf 36 = .ok (.istore 5, 2) := dk_54 5 (dk_at dksX3_valueOf_1 12 rfl rfl)
theorem dX3_valueOf_38 : decode cX3_valueOf 38 = .ok (.iload 5, 2) := dk_21 5 (dk_at dksX3_valueOf_1 14 rfl rfl)
theorem dX3_valueOf_40 : decode cX3_valueOf 40 = .ok (.iconst 5, 1) := dk_8 (dk_at dksX3_valueOf_1 16 rfl rfl)
theorem dX3_valueOf_41 : decode cX3_valueOf 41 = .ok (.if_icmp .lt 37, 3) := dk_161 0 37 (dk_at dksX3_valueOf_1 17 rfl rfl)
theorem dX3_valueOf_44 : decode cX3_valueOf 44 = .ok (.iinc 3 (-1), 3) := dk_132 3 255 (dk_at dksX3_valueOf_1 20 rfl rfl)
theorem dX3_valueOf_47 : decode cX3_valueOf 47 = .ok (.aload_n 0, 1) := dk_42 (dk_at dksX3_valueOf_1 23 rfl rfl)
theorem dX3_valueOf_48 : decode cX3_valueOf 48 = .ok (.getfield 33, 3) := dk_180 0 33 (dk_at dksX3_valueOf_2 0 rfl rfl)
theorem dX3_valueOf_51 : decode cX3_valueOf 51 = .ok (.iload_n 3, 1) := dk_29 (dk_at dksX3_valueOf_2 3 rfl rfl)
theorem dX3_valueOf_52 : decode cX3_valueOf 52 = .ok (.iconst 1, 1) := dk_4 (dk_at dksX3_valueOf_2 4 rfl rfl)
theorem dX3_valueOf_53 : decode cX3_valueOf 53 = .ok (.isub, 1) := dk_100 (dk_at dksX3_valueOf_2 5 rfl rfl)
theorem dX3_valueOf_54 : decode cX3_valueOf 54 = .ok (.aload_n 0, 1) := dk_42 (dk_at dksX3_valueOf_2 6 rfl rfl)
theorem dX3_valueOf_55 : decode cX3_valueOf 55 = .ok (.iload 5, 2) := dk_21 5 (dk_at dksX3_valueOf_2 7 rfl rfl)
theorem dX3_valueOf_57 : decode cX3_valueOf 57 = .ok (.aload_n 0, 1) := dk_42 (dk_at dksX3_valueOf_2 9 rfl rfl)
theorem dX3_valueOf_58 : decode cX3_valueOf 58 = .ok (.getfield 33, 3) := dk_180 0 33 (dk_at dksX3_valueOf_2 10 rfl rfl)
theorem dX3_valueOf_61 : decode cX3_valueOf 61 = .ok (.iload_n 3, 1) := dk_29 (dk_at dksX3_valueOf_2 13 rfl rfl)
theorem dX3_valueOf_62 : decode cX3_valueOf 62 = .ok (.iconst 1, 1) := dk_4 (dk_at dksX3_valueOf_2 14 rfl rfl)
theorem dX3_valueOf_63 : decode cX3_valueOf 63 = .ok (.isub, 1) := dk_100 (dk_at dksX3_valueOf_2 15 rfl rfl)
theorem dX3_valueOf_64 : decode cX3_valueOf 64 = .ok (.laload, 1) := dk_47 (dk_at dksX3_valueOf_2 16 rfl rfl)
theorem dX3_valueOf_65 : decode cX3_valueOf 65 = .ok (.aload_n 0, 1) := dk_42 (dk_at dksX3_valueOf_2 17 rfl rfl)
theorem dX3_valueOf_66 : decode cX3_valueOf 66 = .ok (.getfield 33, 3) := dk_180 0 33 (dk_at dksX3_valueOf_2 18 rfl rfl)
theorem dX3_valueOf_69 : decode cX3_valueOf 69 = .ok (.iload_n 3, 1) := dk_29 (dk_at dksX3_valueOf_2 21 rfl rfl)
theorem dX3_valueOf_70 : decode cX3_valueOf 70 = .ok (.laload, 1) := dk_47 (dk_at dksX3_valueOf_2 22 rfl rfl)
theorem dX3_valueOf_71 : decode cX3_valueOf 71 = .ok (.invokevirtual 100, 3) := dk_182 0 100 (dk_at dksX3_valueOf_3 0 rfl rfl)
theorem dX3_valueOf_74 : decode cX3_valueOf 74 = .ok (.lastore, 1) := dk_80 (dk_at dksX3_valueOf_3 3 rfl rfl)
theorem dX3_valueOf_75 : decode cX3_valueOf 75 = .ok (.goto 91, 3) := dk_167 0 91 (dk_at dksX3_valueOf_3 4 rfl rfl)
theorem dX3_valueOf_78 : decode cX3_valueOf 78 = .ok (.iload 5, 2) := dk_21 5 (dk_at dksX3_valueOf_3 7 rfl rfl)
theorem dX3_valueOf_80 : decode cX3_valueOf 80 = .ok (.ifCond .ne 6, 3) := dk_154 0 6 (dk_at dksX3_valueOf_3 9 rfl rfl)
theorem dX3_valueOf_83 : decode cX3_valueOf 83 = .ok (.iinc 4 1, 3) := dk_132 4 1 (dk_at dksX3_valueOf_3 12 rfl rfl)
theorem dX3_valueOf_86 : decode cX3_valueOf 86 = .ok (.aload_n 0, 1) := dk_42 (dk_at dksX3_valueOf_3 15 rfl rfl)
theorem dX3_valueOf_87 : decode cX3_valueOf 87 = .ok (.getfield 33, 3) := dk_180 0 33 (dk_at dksX3_valueOf_3 16 rfl rfl)
theorem dX3_valueOf_90 : decode cX3_valueOf 90 = .ok (.iload_n 3, 1) := dk_29 (dk_at dksX3_valueOf_3 19 rfl rfl)
theorem dX3_valueOf_91 : decode cX3_valueOf 91 = .ok (.iload 5, 2) := dk_21 5 (dk_at dksX3_valueOf_3 20 rfl rfl)
theorem dX3_valueOf_93 : decode cX3_valueOf 93 = .ok (.ifCond .ne 16, 3) := dk_154 0 16 (dk_at dksX3_valueOf_4 0 rfl rfl)
theorem dX3_valueOf_96 : decode cX3_valueOf 96 = .ok (.aload_n 0, 1) := dk_42 (dk_at dksX3_valueOf_4 3 rfl rfl)
theorem dX3_valueOf_97 : decode cX3_valueOf 97 = .ok (.getfield 27, 3) := dk_180 0 27 (dk_at dksX3_valueOf_4 4 rfl rfl)
theorem dX3_valueOf_100 : decode cX3_valueOf 100 = .ok (.iload_n 2, 1) := dk_28 (dk_at dksX3_valueOf_4 7 rfl rfl)
theorem dX3_valueOf_101 : decode cX3_valueOf 101 = .ok (.iload 4, 2) := dk_21 4 (dk_at dksX3_valueOf_4 8 rfl rfl)
theorem dX3_valueOf_103 : decode cX3_valueOf 103 = .ok (.iadd, 1) := dk_96 (dk_at dksX3_valueOf_4 10 rfl rfl)
theorem dX3_valueOf_104 : decode cX3_valueOf 104 = .ok (.iaload, 1) := dk_46 (dk_at dksX3_valueOf_4 11 rfl rfl)
theorem dX3_valueOf_105 : decode cX3_valueOf 105 = .ok (.i2l, 1) := dk_133 (dk_at dksX3_valueOf_4 12 rfl rfl)
theorem dX3_valueOf_106 : decode cX3_valueOf 106 = .ok (.goto 56, 3) := dk_167 0 56 (dk_at dksX3_valueOf_4 13 rfl rfl)
theorem dX3_valueOf_109 : decode cX3_valueOf 109 = .ok (.iload 5, 2) := dk_21 5 (dk_at dksX3_valueOf_4 16 rfl rfl)
theorem dX3_valueOf_111 : decode cX3_valueOf 111 = .ok (.iconst 1, 1) := dk_4 (dk_at dksX3_valueOf_4 18 rfl rfl)
theorem dX3_valueOf_112 : decode cX3_valueOf 112 = .ok (.if_icmp .ne 12, 3) := dk_160 0 12 (dk_at dksX3_valueOf_4 19 rfl rfl)
theorem dX3_valueOf_115 : decode cX3_valueOf 115 = .ok (.aload_n 0, 1) := dk_42 (dk_at dksX3_valueOf_4 22 rfl rfl)
theorem dX3_valueOf_116 : decode cX3_valueOf 116 = .ok (.iload_n 1, 1) := dk_27 (dk_at dksX3_valueOf_4 23 rfl rfl)
theorem dX3_valueOf_117 : decode cX3_valueOf 117 = .ok (.invokevirtual 104, 3) := dk_182 0 104 (dk_at dksX3_valueOf_5 0 rfl rfl)
theorem dX3_valueOf_120 : decode cX3_valueOf 120 = .ok (.i2l, 1) := dk_133 (dk_at dksX3_valueOf_5 3 rfl rfl)
theorem dX3_valueOf_121 : decode cX3_valueOf 121 = .ok (.goto 41, 3) := dk_167 0 41 (dk_at dksX3_valueOf_5 4 rfl rfl)
theorem dX3_valueOf_124 : decode cX3_valueOf 124 = .ok (.iload 5, 2) := dk_21 5 (dk_at dksX3_valueOf_5 7 rfl rfl)
theorem dX3_valueOf_126 : decode cX3_valueOf 126 = .ok (.iconst 2, 1) := dk_5 (dk_at dksX3_valueOf_5 9 rfl rfl)
theorem dX3_valueOf_127 : decode cX3_valueOf 127 = .ok (.if_icmp .ne 12, 3) := dk_160 0 12 (dk_at dksX3_valueOf_5 10 rfl rfl)
theorem dX3_valueOf_130 : decode cX3_valueOf 130 = .ok (.aload_n 0, 1) := dk_42 (dk_at dksX3_valueOf_5 13 rfl rfl)
theorem dX3_valueOf_131 : decode cX3_valueOf 131 = .ok (.iload_n 1, 1) := dk_27 (dk_at dksX3_valueOf_5 14 rfl rfl)
theorem dX3_valueOf_132 : decode cX3_valueOf 132 = .ok (.invokevirtual 107, 3) := dk_182 0 107 (dk_at dksX3_valueOf_5 15 rfl rfl)
theorem dX3_valueOf_135 : decode cX3_valueOf 135 = .ok (.i2l, 1) := dk_133 (dk_at dksX3_valueOf_5 18 rfl rfl)
theorem dX3_valueOf_136 : decode cX3_valueOf 136 = .ok (.goto 26, 3) := dk_167 0 26 (dk_at dksX3_valueOf_5 19 rfl rfl)
theorem dX3_valueOf_139 : decode cX3_valueOf 139 = .ok (.iload 5, 2) := dk_21 5 (dk_at dksX3_valueOf_5 22 rfl rfl)
theorem dX3_valueOf_141 : decode cX3_valueOf 141 = .ok (.iconst 3, 1) := dk_6 (dk_at dksX3_valueOf_6 0 rfl rfl)
theorem dX3_valueOf_142 : decode cX3_valueOf 142 = .ok (.if_icmp .ne 13, 3) := dk_160 0 13 (dk_at dksX3_valueOf_6 1 rfl rfl)
theorem dX3_valueOf_145 : decode cX3_valueOf 145 = .ok (.aload_n 0, 1) := dk_42 (dk_at dksX3_valueOf_6 4 rfl rfl)
theorem dX3_valueOf_146 : decode cX3_valueOf 146 = .ok (.iload_n 1, 1) := dk_27 (dk_at dksX3_valueOf_6 5 rfl rfl)
theorem dX3_valueOf_147 : decode cX3_valueOf 147 = .ok (.iconst 0, 1) := dk_3 (dk_at dksX3_valueOf_6 6 rfl rfl)
theorem dX3_valueOf_148 : decode cX3_valueOf 148 = .ok (.invokevirtual 74, 3) := dk_182 0 74 (dk_at dksX3_valueOf_6 7 rfl rfl)
theorem dX3_valueOf_151 : decode cX3_valueOf 151 = .ok (.i2l, 1) := dk_133 (dk_at dksX3_valueOf_6 10 rfl rfl)
theorem dX3_valueOf_152 : decode cX3_valueOf 152 = .ok (.goto 10, 3) := dk_167 0 10 (dk_at dksX3_valueOf_6 11 rfl rfl)
theorem dX3_valueOf_155 : decode cX3_valueOf 155 = .ok (.aload_n 0, 1) := dk_42 (dk_at dksX3_valueOf_6 14 rfl rfl)
theorem dX3_valueOf_156 : decode cX3_valueOf 156 = .ok (.getfield 13, 3) := dk_180 0 13 (dk_at dksX3_valueOf_6 15 rfl rfl)
theorem dX3_valueOf_159 : decode cX3_valueOf 159 = .ok (.iconst 1, 1) := dk_4 (dk_at dksX3_valueOf_6 18 rfl rfl)
theorem dX3_valueOf_160 : decode cX3_valueOf 160 = .ok (.iaload, 1) := dk_46 (dk_at dksX3_valueOf_6 19 rfl rfl)
theorem dX3_valueOf_161 : decode cX3_valueOf 161 = .ok (.i2l, 1) := dk_133 (dk_at dksX3_valueOf_6 20 rfl rfl)
theorem dX3_valueOf_162 : decode cX3_valueOf 162 = .ok (.lastore, 1) := dk_80 (dk_at dksX3_valueOf_6 21 rfl rfl)
theorem dX3_valueOf_163 : decode cX3_valueOf 163 = .ok (.iinc 3 1, 3) := dk_132 3 1 (dk_at dksX3_valueOf_7 0 rfl rfl)
theorem dX3_valueOf_166 : decode cX3_valueOf 166 = .ok (.iinc 4 1, 3) := dk_132 4 1 (dk_at dksX3_valueOf_7 3 rfl rfl)
theorem dX3_valueOf_169 : decode cX3_valueOf 169 = .ok (.goto (-153), 3) := dk_167 255 103 (dk_at dksX3_valueOf_7 6 rfl rfl)
theorem dX3_valueOf_172 : decode cX3_valueOf 172 = .ok (.aload_n 0, 1) := dk_42 (dk_at dksX3_valueOf_7 9 rfl rfl)
theorem dX3_valueOf_173 : decode cX3_valueOf 173 = .ok (.getfield 27, 3) := dk_180 0 27 (dk_at dksX3_valueOf_7 10 rfl rfl)
theorem dX3_valueOf_176 : decode cX3_valueOf 176 = .ok (.iload_n 2, 1) := dk_28 (dk_at dksX3_valueOf_7 13 rfl rfl)
theorem dX3_valueOf_177 : decode cX3_valueOf 177 = .ok (.iaload, 1) := dk_46 (dk_at dksX3_valueOf_7 14 rfl rfl)
theorem dX3_valueOf_178 : decode cX3_valueOf 178 = .ok (.ifCond .ne 7, 3) := dk_154 0 7 (dk_at dksX3_valueOf_7 15 rfl rfl)
theorem dX3_valueOf_181 : decode cX3_valueOf 181 = .ok (.lconst 0, 1) := dk_9 (dk_at dksX3_valueOf_7 18 rfl rfl)
theorem dX3_valueOf_182 : decode cX3_valueOf 182 = .ok (.goto 9, 3) := dk_167 0 9 (dk_at dksX3_valueOf_7 19 rfl rfl)
theorem dX3_valueOf_185 : decode cX3_valueOf 185 = .ok (.aload_n 0, 1) := dk_42 (dk_at dksX3_valueOf_7 22 rfl rfl)
theorem dX3_valueOf_186 : decode cX3_valueOf 186 = .ok (.getfield 33, 3) := dk_180 0 33 (dk_at dksX3_valueOf_8 0 rfl rfl)
theorem dX3_valueOf_189 : decode cX3_valueOf 189 = .ok (.iconst 0, 1) := dk_3 (dk_at dksX3_valueOf_8 3 rfl rfl)
theorem dX3_valueOf_190 : decode cX3_valueOf 190 = .ok (.laload, 1) := dk_47 (dk_at dksX3_valueOf_8 4 rfl rfl)
theorem dX3_valueOf_191 : decode cX3_valueOf 191 = .ok (.lreturn, 1) := dk_173 (dk_at dksX3_valueOf_8 5 rfl rfl)
abbrev cX3_opens : ByteArray := prog_39_method_22_code
def yX3_opens : MethodName := ⟨RX3, "opens", "(I)V"⟩
def dkwX3_opens_5 : List UInt8 := [184, 0, 86, 184, 0, 90, 136, 79, 177]
abbrev dktX3_opens_5 : List UInt8 := dkwX3_opens_5 ++ []
def dkwX3_opens_4 : List UInt8 := [180, 0, 13, 27, 8, 184, 0, 63, 42, 180, 0, 96, 153, 0, 7, 3, 167, 0, 14, 9, 28, 133, 33]
abbrev dktX3_opens_4 : List UInt8 := dkwX3_opens_4 ++ dktX3_opens_5
def dkwX3_opens_3 : List UInt8 := [42, 180, 0, 13, 27, 16, 6, 184, 0, 63, 42, 180, 0, 96, 153, 0, 7, 4, 167, 0, 4, 3, 79, 42]
abbrev dktX3_opens_3 : List UInt8 := dkwX3_opens_3 ++ dktX3_opens_4
def dkwX3_opens_2 : List UInt8 := [42, 180, 0, 13, 27, 16, 10, 184, 0, 63, 3, 79, 42, 180, 0, 13, 27, 16, 11, 184, 0, 63, 3, 79]
abbrev dktX3_opens_2 : List UInt8 := dkwX3_opens_2 ++ dktX3_opens_3
def dkwX3_opens_1 : List UInt8 := [42, 180, 0, 13, 27, 16, 8, 184, 0, 63, 3, 79, 42, 180, 0, 13, 27, 16, 9, 184, 0, 63, 3, 79]
abbrev dktX3_opens_1 : List UInt8 := dkwX3_opens_1 ++ dktX3_opens_2
def dkwX3_opens_0 : List UInt8 := [42, 27, 182, 0, 104, 61, 42, 27, 182, 0, 110, 66, 42, 180, 0, 13, 27, 16, 7, 184, 0, 63, 28, 79]
abbrev dktX3_opens_0 : List UInt8 := dkwX3_opens_0 ++ dktX3_opens_1
theorem dksX3_opens_0 : cX3_opens.data.toList.drop 0 = dktX3_opens_0 := by decide +kernel
theorem dksX3_opens_1 : cX3_opens.data.toList.drop 24 = dktX3_opens_1 := dk_seg dksX3_opens_0 24 rfl rfl
theorem dksX3_opens_2 : cX3_opens.data.toList.drop 48 = dktX3_opens_2 := dk_seg dksX3_opens_1 24 rfl rfl
theorem dksX3_opens_3 : cX3_opens.data.toList.drop 72 = dktX3_opens_3 := dk_seg dksX3_opens_2 24 rfl rfl
theorem dksX3_opens_4 : cX3_opens.data.toList.drop 96 = dktX3_opens_4 := dk_seg dksX3_opens_3 24 rfl rfl
theorem dksX3_opens_5 : cX3_opens.data.toList.drop 119 = dktX3_opens_5 := dk_seg dksX3_opens_4 23 rfl rfl
theorem dX3_opens_0 : decode cX3_opens 0 = .ok (.aload_n 0, 1) := dk_42 (dk_at dksX3_opens_0 0 rfl rfl)
theorem dX3_opens_1 : decode cX3_opens 1 = .ok (.iload_n 1, 1) := dk_27 (dk_at dksX3_opens_0 1 rfl rfl)
theorem dX3_opens_2 : decode cX3_opens 2 = .ok (.invokevirtual 104, 3) := dk_182 0 104 (dk_at dksX3_opens_0 2 rfl rfl)
theorem dX3_opens_5 : decode cX3_opens 5 = .ok (.istore_n 2, 1) := dk_61 (dk_at dksX3_opens_0 5 rfl rfl)
theorem dX3_opens_6 : decode cX3_opens 6 = .ok (.aload_n 0, 1) := dk_42 (dk_at dksX3_opens_0 6 rfl rfl)
theorem dX3_opens_7 : decode cX3_opens 7 = .ok (.iload_n 1, 1) := dk_27 (dk_at dksX3_opens_0 7 rfl rfl)
theorem dX3_opens_8 : decode cX3_opens 8 = .ok (.invokevirtual 110, 3) := dk_182 0 110 (dk_at dksX3_opens_0 8 rfl rfl)
theorem dX3_opens_11 : decode cX3_opens 11 = .ok (.lstore_n 3, 1) := dk_66 (dk_at dksX3_opens_0 11 rfl rfl)
theorem dX3_opens_12 : decode cX3_opens 12 = .ok (.aload_n 0, 1) := dk_42 (dk_at dksX3_opens_0 12 rfl rfl)
theorem dX3_opens_13 : decode cX3_opens 13 = .ok (.getfield 13, 3) := dk_180 0 13 (dk_at dksX3_opens_0 13 rfl rfl)
theorem dX3_opens_16 : decode cX3_opens 16 = .ok (.iload_n 1, 1) := dk_27 (dk_at dksX3_opens_0 16 rfl rfl)
theorem dX3_opens_17 : decode cX3_opens 17 = .ok (.bipush 7, 2) := dk_16 7 (dk_at dksX3_opens_0 17 rfl rfl)
theorem dX3_opens_19 : decode cX3_opens 19 = .ok (.invokestatic 63, 3) := dk_184 0 63 (dk_at dksX3_opens_0 19 rfl rfl)
theorem dX3_opens_22 : decode cX3_opens 22 = .ok (.iload_n 2, 1) := dk_28 (dk_at dksX3_opens_0 22 rfl rfl)
theorem dX3_opens_23 : decode cX3_opens 23 = .ok (.iastore, 1) := dk_79 (dk_at dksX3_opens_0 23 rfl rfl)
theorem dX3_opens_24 : decode cX3_opens 24 = .ok (.aload_n 0, 1) := dk_42 (dk_at dksX3_opens_1 0 rfl rfl)
theorem dX3_opens_25 : decode cX3_opens 25 = .ok (.getfield 13, 3) := dk_180 0 13 (dk_at dksX3_opens_1 1 rfl rfl)
theorem dX3_opens_28 : decode cX3_opens 28 = .ok (.iload_n 1, 1) := dk_27 (dk_at dksX3_opens_1 4 rfl rfl)
theorem dX3_opens_29 : decode cX3_opens 29 = .ok (.bipush 8, 2) := dk_16 8 (dk_at dksX3_opens_1 5 rfl rfl)
theorem dX3_opens_31 : decode cX3_opens 31 = .ok (.invokestatic 63, 3) := dk_184 0 63 (dk_at dksX3_opens_1 7 rfl rfl)
theorem dX3_opens_34 : decode cX3_opens 34 = .ok (.iconst 0, 1) := dk_3 (dk_at dksX3_opens_1 10 rfl rfl)
theorem dX3_opens_35 : decode cX3_opens 35 = .ok (.iastore, 1) := dk_79 (dk_at dksX3_opens_1 11 rfl rfl)
theorem dX3_opens_36 : decode cX3_opens 36 = .ok (.aload_n 0, 1) := dk_42 (dk_at dksX3_opens_1 12 rfl rfl)
theorem dX3_opens_37 : decode cX3_opens 37 = .ok (.getfield 13, 3) := dk_180 0 13 (dk_at dksX3_opens_1 13 rfl rfl)
theorem dX3_opens_40 : decode cX3_opens 40 = .ok (.iload_n 1, 1) := dk_27 (dk_at dksX3_opens_1 16 rfl rfl)
theorem dX3_opens_41 : decode cX3_opens 41 = .ok (.bipush 9, 2) := dk_16 9 (dk_at dksX3_opens_1 17 rfl rfl)
theorem dX3_opens_43 : decode cX3_opens 43 = .ok (.invokestatic 63, 3) := dk_184 0 63 (dk_at dksX3_opens_1 19 rfl rfl)
theorem dX3_opens_46 : decode cX3_opens 46 = .ok (.iconst 0, 1) := dk_3 (dk_at dksX3_opens_1 22 rfl rfl)
theorem dX3_opens_47 : decode cX3_opens 47 = .ok (.iastore, 1) := dk_79 (dk_at dksX3_opens_1 23 rfl rfl)
theorem dX3_opens_48 : decode cX3_opens 48 = .ok (.aload_n 0, 1) := dk_42 (dk_at dksX3_opens_2 0 rfl rfl)
theorem dX3_opens_49 : decode cX3_opens 49 = .ok (.getfield 13, 3) := dk_180 0 13 (dk_at dksX3_opens_2 1 rfl rfl)
theorem dX3_opens_52 : decode cX3_opens 52 = .ok (.iload_n 1, 1) := dk_27 (dk_at dksX3_opens_2 4 rfl rfl)
theorem dX3_opens_53 : decode cX3_opens 53 = .ok (.bipush 10, 2) := dk_16 10 (dk_at dksX3_opens_2 5 rfl rfl)
theorem dX3_opens_55 : decode cX3_opens 55 = .ok (.invokestatic 63, 3) := dk_184 0 63 (dk_at dksX3_opens_2 7 rfl rfl)
theorem dX3_opens_58 : decode cX3_opens 58 = .ok (.iconst 0, 1) := dk_3 (dk_at dksX3_opens_2 10 rfl rfl)
theorem dX3_opens_59 : decode cX3_opens 59 = .ok (.iastore, 1) := dk_79 (dk_at dksX3_opens_2 11 rfl rfl)
theorem dX3_opens_60 : decode cX3_opens 60 = .ok (.aload_n 0, 1) := dk_42 (dk_at dksX3_opens_2 12 rfl rfl)
theorem dX3_opens_61 : decode cX3_opens 61 = .ok (.getfield 13, 3) := dk_180 0 13 (dk_at dksX3_opens_2 13 rfl rfl)
theorem dX3_opens_64 : decode cX3_opens 64 = .ok (.iload_n 1, 1) := dk_27 (dk_at dksX3_opens_2 16 rfl rfl)
theorem dX3_opens_65 : decode cX3_opens 65 = .ok (.bipush 11, 2) := dk_16 11 (dk_at dksX3_opens_2 17 rfl rfl)
theorem dX3_opens_67 : decode cX3_opens 67 = .ok (.invokestatic 63, 3) := dk_184 0 63 (dk_at dksX3_opens_2 19 rfl rfl)
theorem dX3_opens_70 : decode cX3_opens 70 = .ok (.iconst 0, 1) := dk_3 (dk_at dksX3_opens_2 22 rfl rfl)
theorem dX3_opens_71 : decode cX3_opens 71 = .ok (.iastore, 1) := dk_79 (dk_at dksX3_opens_2 23 rfl rfl)
theorem dX3_opens_72 : decode cX3_opens 72 = .ok (.aload_n 0, 1) := dk_42 (dk_at dksX3_opens_3 0 rfl rfl)
theorem dX3_opens_73 : decode cX3_opens 73 = .ok (.getfield 13, 3) := dk_180 0 13 (dk_at dksX3_opens_3 1 rfl rfl)
theorem dX3_opens_76 : decode cX3_opens 76 = .ok (.iload_n 1, 1) := dk_27 (dk_at dksX3_opens_3 4 rfl rfl)
theorem dX3_opens_77 : decode cX3_opens 77 = .ok (.bipush 6, 2) := dk_16 6 (dk_at dksX3_opens_3 5 rfl rfl)
theorem dX3_opens_79 : decode cX3_opens 79 = .ok (.invokestatic 63, 3) := dk_184 0 63 (dk_at dksX3_opens_3 7 rfl rfl)
theorem dX3_opens_82 : decode cX3_opens 82 = .ok (.aload_n 0, 1) := dk_42 (dk_at dksX3_opens_3 10 rfl rfl)
theorem dX3_opens_83 : decode cX3_opens 83 = .ok (.getfield 96, 3) := dk_180 0 96 (dk_at dksX3_opens_3 11 rfl rfl)
theorem dX3_opens_86 : decode cX3_opens 86 = .ok (.ifCond .eq 7, 3) := dk_153 0 7 (dk_at dksX3_opens_3 14 rfl rfl)
theorem dX3_opens_89 : decode cX3_opens 89 = .ok (.iconst 1, 1) := dk_4 (dk_at dksX3_opens_3 17 rfl rfl)
theorem dX3_opens_90 : decode cX3_opens 90 = .ok (.goto 4, 3) := dk_167 0 4 (dk_at dksX3_opens_3 18 rfl rfl)
theorem dX3_opens_93 : decode cX3_opens 93 = .ok (.iconst 0, 1) := dk_3 (dk_at dksX3_opens_3 21 rfl rfl)
theorem dX3_opens_94 : decode cX3_opens 94 = .ok (.iastore, 1) := dk_79 (dk_at dksX3_opens_3 22 rfl rfl)
theorem dX3_opens_95 : decode cX3_opens 95 = .ok (.aload_n 0, 1) := dk_42 (dk_at dksX3_opens_3 23 rfl rfl)
theorem dX3_opens_96 : decode cX3_opens 96 = .ok (.getfield 13, 3) := dk_180 0 13 (dk_at dksX3_opens_4 0 rfl rfl)
theorem dX3_opens_99 : decode cX3_opens 99 = .ok (.iload_n 1, 1) := dk_27 (dk_at dksX3_opens_4 3 rfl rfl)
theorem dX3_opens_100 : decode cX3_opens 100 = .ok (.iconst 5, 1) := dk_8 (dk_at dksX3_opens_4 4 rfl rfl)
theorem dX3_opens_101 : decode cX3_opens 101 = .ok (.invokestatic 63, 3) := dk_184 0 63 (dk_at dksX3_opens_4 5 rfl rfl)
theorem dX3_opens_104 : decode cX3_opens 104 = .ok (.aload_n 0, 1) := dk_42 (dk_at dksX3_opens_4 8 rfl rfl)
theorem dX3_opens_105 : decode cX3_opens 105 = .ok (.getfield 96, 3) := dk_180 0 96 (dk_at dksX3_opens_4 9 rfl rfl)
theorem dX3_opens_108 : decode cX3_opens 108 = .ok (.ifCond .eq 7, 3) := dk_153 0 7 (dk_at dksX3_opens_4 12 rfl rfl)
theorem dX3_opens_111 : decode cX3_opens 111 = .ok (.iconst 0, 1) := dk_3 (dk_at dksX3_opens_4 15 rfl rfl)
theorem dX3_opens_112 : decode cX3_opens 112 = .ok (.goto 14, 3) := dk_167 0 14 (dk_at dksX3_opens_4 16 rfl rfl)
theorem dX3_opens_115 : decode cX3_opens 115 = .ok (.lconst 0, 1) := dk_9 (dk_at dksX3_opens_4 19 rfl rfl)
theorem dX3_opens_116 : decode cX3_opens 116 = .ok (.iload_n 2, 1) := dk_28 (dk_at dksX3_opens_4 20 rfl rfl)
theorem dX3_opens_117 : decode cX3_opens 117 = .ok (.i2l, 1) := dk_133 (dk_at dksX3_opens_4 21 rfl rfl)
theorem dX3_opens_118 : decode cX3_opens 118 = .ok (.lload_n 3, 1) := dk_33 (dk_at dksX3_opens_4 22 rfl rfl)
theorem dX3_opens_119 : decode cX3_opens 119 = .ok (.invokestatic 86, 3) := dk_184 0 86 (dk_at dksX3_opens_5 0 rfl rfl)
theorem dX3_opens_122 : decode cX3_opens 122 = .ok (.invokestatic 90, 3) := dk_184 0 90 (dk_at dksX3_opens_5 3 rfl rfl)
theorem dX3_opens_125 : decode cX3_opens 125 = .ok (.l2i, 1) := dk_136 (dk_at dksX3_opens_5 6 rfl rfl)
theorem dX3_opens_126 : decode cX3_opens 126 = .ok (.iastore, 1) := dk_79 (dk_at dksX3_opens_5 7 rfl rfl)
theorem dX3_opens_127 : decode cX3_opens 127 = .ok (.return_, 1) := dk_177 (dk_at dksX3_opens_5 8 rfl rfl)
abbrev cX3_hasFailed : ByteArray := prog_39_method_27_code
def yX3_hasFailed : MethodName := ⟨RX3, "hasFailed", "()Z"⟩
def dkwX3_hasFailed_0 : List UInt8 := [42, 180, 0, 120, 2, 159, 0, 7, 4, 167, 0, 4, 3, 172]
abbrev dktX3_hasFailed_0 : List UInt8 := dkwX3_hasFailed_0 ++ []
theorem dksX3_hasFailed_0 : cX3_hasFailed.data.toList.drop 0 = dktX3_hasFailed_0 := by decide +kernel
theorem dX3_hasFailed_0 : decode cX3_hasFailed 0 = .ok (.aload_n 0, 1) := dk_42 (dk_at dksX3_hasFailed_0 0 rfl rfl)
theorem dX3_hasFailed_1 : decode cX3_hasFailed 1 = .ok (.getfield 120, 3) := dk_180 0 120 (dk_at dksX3_hasFailed_0 1 rfl rfl)
theorem dX3_hasFailed_4 : decode cX3_hasFailed 4 = .ok (.iconst (-1), 1) := dk_2 (dk_at dksX3_hasFailed_0 4 rfl rfl)
theorem dX3_hasFailed_5 : decode cX3_hasFailed 5 = .ok (.if_icmp .eq 7, 3) := dk_159 0 7 (dk_at dksX3_hasFailed_0 5 rfl rfl)
theorem dX3_hasFailed_8 : decode cX3_hasFailed 8 = .ok (.iconst 1, 1) := dk_4 (dk_at dksX3_hasFailed_0 8 rfl rfl)
theorem dX3_hasFailed_9 : decode cX3_hasFailed 9 = .ok (.goto 4, 3) := dk_167 0 4 (dk_at dksX3_hasFailed_0 9 rfl rfl)
theorem dX3_hasFailed_12 : decode cX3_hasFailed 12 = .ok (.iconst 0, 1) := dk_3 (dk_at dksX3_hasFailed_0 12 rfl rfl)
theorem dX3_hasFailed_13 : decode cX3_hasFailed 13 = .ok (.ireturn, 1) := dk_172 (dk_at dksX3_hasFailed_0 13 rfl rfl)
abbrev cX3_throwsIf : ByteArray := prog_39_method_2_code
def yX3_throwsIf : MethodName := ⟨RX3, "throwsIf", "(ZI)Z"⟩
def dkwX3_throwsIf_0 : List UInt8 := [27, 153, 0, 8, 42, 28, 181, 0, 3, 27, 172]
abbrev dktX3_throwsIf_0 : List UInt8 := dkwX3_throwsIf_0 ++ []
theorem dksX3_throwsIf_0 : cX3_throwsIf.data.toList.drop 0 = dktX3_throwsIf_0 := by decide +kernel
theorem dX3_throwsIf_0 : decode cX3_throwsIf 0 = .ok (.iload_n 1, 1) := dk_27 (dk_at dksX3_throwsIf_0 0 rfl rfl)
theorem dX3_throwsIf_1 : decode cX3_throwsIf 1 = .ok (.ifCond .eq 8, 3) := dk_153 0 8 (dk_at dksX3_throwsIf_0 1 rfl rfl)
theorem dX3_throwsIf_4 : decode cX3_throwsIf 4 = .ok (.aload_n 0, 1) := dk_42 (dk_at dksX3_throwsIf_0 4 rfl rfl)
theorem dX3_throwsIf_5 : decode cX3_throwsIf 5 = .ok (.iload_n 2, 1) := dk_28 (dk_at dksX3_throwsIf_0 5 rfl rfl)
theorem dX3_throwsIf_6 : decode cX3_throwsIf 6 = .ok (.putfield 3, 3) := dk_181 0 3 (dk_at dksX3_throwsIf_0 6 rfl rfl)
theorem dX3_throwsIf_9 : decode cX3_throwsIf 9 = .ok (.iload_n 1, 1) := dk_27 (dk_at dksX3_throwsIf_0 9 rfl rfl)
theorem dX3_throwsIf_10 : decode cX3_throwsIf 10 = .ok (.ireturn, 1) := dk_172 (dk_at dksX3_throwsIf_0 10 rfl rfl)
abbrev cX3_takesBack : ByteArray := prog_39_method_11_code
def yX3_takesBack : MethodName := ⟨RX3, "takesBack", "()V"⟩
def dkwX3_takesBack_0 : List UInt8 := [42, 42, 180, 0, 17, 3, 42, 180, 0, 13, 3, 182, 0, 59, 177]
abbrev dktX3_takesBack_0 : List UInt8 := dkwX3_takesBack_0 ++ []
theorem dksX3_takesBack_0 : cX3_takesBack.data.toList.drop 0 = dktX3_takesBack_0 := by decide +kernel
theorem dX3_takesBack_0 : decode cX3_takesBack 0 = .ok (.aload_n 0, 1) := dk_42 (dk_at dksX3_takesBack_0 0 rfl rfl)
theorem dX3_takesBack_1 : decode cX3_takesBack 1 = .ok (.aload_n 0, 1) := dk_42 (dk_at dksX3_takesBack_0 1 rfl rfl)
theorem dX3_takesBack_2 : decode cX3_takesBack 2 = .ok (.getfield 17, 3) := dk_180 0 17 (dk_at dksX3_takesBack_0 2 rfl rfl)
theorem dX3_takesBack_5 : decode cX3_takesBack 5 = .ok (.iconst 0, 1) := dk_3 (dk_at dksX3_takesBack_0 5 rfl rfl)
theorem dX3_takesBack_6 : decode cX3_takesBack 6 = .ok (.aload_n 0, 1) := dk_42 (dk_at dksX3_takesBack_0 6 rfl rfl)
theorem dX3_takesBack_7 : decode cX3_takesBack 7 = .ok (.getfield 13, 3) := dk_180 0 13 (dk_at dksX3_takesBack_0 7 rfl rfl)
theorem dX3_takesBack_10 : decode cX3_takesBack 10 = .ok (.iconst 0, 1) := dk_3 (dk_at dksX3_takesBack_0 10 rfl rfl)
theorem dX3_takesBack_11 : decode cX3_takesBack 11 = .ok (.invokevirtual 59, 3) := dk_182 0 59 (dk_at dksX3_takesBack_0 11 rfl rfl)
theorem dX3_takesBack_14 : decode cX3_takesBack 14 = .ok (.return_, 1) := dk_177 (dk_at dksX3_takesBack_0 14 rfl rfl)
abbrev cX3_isAt : ByteArray := prog_39_method_28_code
def yX3_isAt : MethodName := ⟨RX3, "isAt", "(II)Z"⟩
def dkwX3_isAt_1 : List UInt8 := [42, 180, 0, 37, 42, 180, 0, 123, 51, 28, 163, 0, 7, 4, 167, 0, 4, 3, 172]
abbrev dktX3_isAt_1 : List UInt8 := dkwX3_isAt_1 ++ []
def dkwX3_isAt_0 : List UInt8 := [42, 180, 0, 123, 42, 180, 0, 126, 162, 0, 33, 42, 180, 0, 37, 42, 180, 0, 123, 51, 27, 161, 0, 20]
abbrev dktX3_isAt_0 : List UInt8 := dkwX3_isAt_0 ++ dktX3_isAt_1
theorem dksX3_isAt_0 : cX3_isAt.data.toList.drop 0 = dktX3_isAt_0 := by decide +kernel
theorem dksX3_isAt_1 : cX3_isAt.data.toList.drop 24 = dktX3_isAt_1 := dk_seg dksX3_isAt_0 24 rfl rfl
theorem dX3_isAt_0 : decode cX3_isAt 0 = .ok (.aload_n 0, 1) := dk_42 (dk_at dksX3_isAt_0 0 rfl rfl)
theorem dX3_isAt_1 : decode cX3_isAt 1 = .ok (.getfield 123, 3) := dk_180 0 123 (dk_at dksX3_isAt_0 1 rfl rfl)
theorem dX3_isAt_4 : decode cX3_isAt 4 = .ok (.aload_n 0, 1) := dk_42 (dk_at dksX3_isAt_0 4 rfl rfl)
theorem dX3_isAt_5 : decode cX3_isAt 5 = .ok (.getfield 126, 3) := dk_180 0 126 (dk_at dksX3_isAt_0 5 rfl rfl)
theorem dX3_isAt_8 : decode cX3_isAt 8 = .ok (.if_icmp .ge 33, 3) := dk_162 0 33 (dk_at dksX3_isAt_0 8 rfl rfl)
theorem dX3_isAt_11 : decode cX3_isAt 11 = .ok (.aload_n 0, 1) := dk_42 (dk_at dksX3_isAt_0 11 rfl rfl)
theorem dX3_isAt_12 : decode cX3_isAt 12 = .ok (.getfield 37, 3) := dk_180 0 37 (dk_at dksX3_isAt_0 12 rfl rfl)
theorem dX3_isAt_15 : decode cX3_isAt 15 = .ok (.aload_n 0, 1) := dk_42 (dk_at dksX3_isAt_0 15 rfl rfl)
theorem dX3_isAt_16 : decode cX3_isAt 16 = .ok (.getfield 123, 3) := dk_180 0 123 (dk_at dksX3_isAt_0 16 rfl rfl)
theorem dX3_isAt_19 : decode cX3_isAt 19 = .ok (.baload, 1) := dk_51 (dk_at dksX3_isAt_0 19 rfl rfl)
theorem dX3_isAt_20 : decode cX3_isAt 20 = .ok (.iload_n 1, 1) := dk_27 (dk_at dksX3_isAt_0 20 rfl rfl)
theorem dX3_isAt_21 : decode cX3_isAt 21 = .ok (.if_icmp .lt 20, 3) := dk_161 0 20 (dk_at dksX3_isAt_0 21 rfl rfl)
theorem dX3_isAt_24 : decode cX3_isAt 24 = .ok (.aload_n 0, 1) := dk_42 (dk_at dksX3_isAt_1 0 rfl rfl)
theorem dX3_isAt_25 : decode cX3_isAt 25 = .ok (.getfield 37, 3) := dk_180 0 37 (dk_at dksX3_isAt_1 1 rfl rfl)
theorem dX3_isAt_28 : decode cX3_isAt 28 = .ok (.aload_n 0, 1) := dk_42 (dk_at dksX3_isAt_1 4 rfl rfl)
theorem dX3_isAt_29 : decode cX3_isAt 29 = .ok (.getfield 123, 3) := dk_180 0 123 (dk_at dksX3_isAt_1 5 rfl rfl)
theorem dX3_isAt_32 : decode cX3_isAt 32 = .ok (.baload, 1) := dk_51 (dk_at dksX3_isAt_1 8 rfl rfl)
theorem dX3_isAt_33 : decode cX3_isAt 33 = .ok (.iload_n 2, 1) := dk_28 (dk_at dksX3_isAt_1 9 rfl rfl)
theorem dX3_isAt_34 : decode cX3_isAt 34 = .ok (.if_icmp .gt 7, 3) := dk_163 0 7 (dk_at dksX3_isAt_1 10 rfl rfl)
theorem dX3_isAt_37 : decode cX3_isAt 37 = .ok (.iconst 1, 1) := dk_4 (dk_at dksX3_isAt_1 13 rfl rfl)
theorem dX3_isAt_38 : decode cX3_isAt 38 = .ok (.goto 4, 3) := dk_167 0 4 (dk_at dksX3_isAt_1 14 rfl rfl)
theorem dX3_isAt_41 : decode cX3_isAt 41 = .ok (.iconst 0, 1) := dk_3 (dk_at dksX3_isAt_1 17 rfl rfl)
theorem dX3_isAt_42 : decode cX3_isAt 42 = .ok (.ireturn, 1) := dk_172 (dk_at dksX3_isAt_1 18 rfl rfl)
abbrev cX3_blanks : ByteArray := prog_39_method_29_code
def yX3_blanks : MethodName := ⟨RX3, "blanks", "()V"⟩
def dkwX3_blanks_2 : List UInt8 := [181, 0, 137, 177]
abbrev dktX3_blanks_2 : List UInt8 := dkwX3_blanks_2 ++ []
def dkwX3_blanks_1 : List UInt8 := [182, 0, 133, 153, 0, 16, 42, 89, 180, 0, 123, 4, 96, 181, 0, 123, 167, 255, 224, 42, 42, 180, 0, 123]
abbrev dktX3_blanks_1 : List UInt8 := dkwX3_blanks_1 ++ dktX3_blanks_2
def dkwX3_blanks_0 : List UInt8 := [42, 182, 0, 129, 153, 0, 4, 177, 42, 16, 9, 16, 10, 182, 0, 133, 154, 0, 14, 42, 16, 32, 16, 32]
abbrev dktX3_blanks_0 : List UInt8 := dkwX3_blanks_0 ++ dktX3_blanks_1
theorem dksX3_blanks_0 : cX3_blanks.data.toList.drop 0 = dktX3_blanks_0 := by decide +kernel
theorem dksX3_blanks_1 : cX3_blanks.data.toList.drop 24 = dktX3_blanks_1 := dk_seg dksX3_blanks_0 24 rfl rfl
theorem dksX3_blanks_2 : cX3_blanks.data.toList.drop 48 = dktX3_blanks_2 := dk_seg dksX3_blanks_1 24 rfl rfl
theorem dX3_blanks_0 : decode cX3_blanks 0 = .ok (.aload_n 0, 1) := dk_42 (dk_at dksX3_blanks_0 0 rfl rfl)
theorem dX3_blanks_1 : decode cX3_blanks 1 = .ok (.invokevirtual 129, 3) := dk_182 0 129 (dk_at dksX3_blanks_0 1 rfl rfl)
theorem dX3_blanks_4 : decode cX3_blanks 4 = .ok (.ifCond .eq 4, 3) := dk_153 0 4 (dk_at dksX3_blanks_0 4 rfl rfl)
theorem dX3_blanks_7 : decode cX3_blanks 7 = .ok (.return_, 1) := dk_177 (dk_at dksX3_blanks_0 7 rfl rfl)
theorem dX3_blanks_8 : decode cX3_blanks 8 = .ok (.aload_n 0, 1) := dk_42 (dk_at dksX3_blanks_0 8 rfl rfl)
theorem dX3_blanks_9 : decode cX3_blanks 9 = .ok (.bipush 9, 2) := dk_16 9 (dk_at dksX3_blanks_0 9 rfl rfl)
theorem dX3_blanks_11 : decode cX3_blanks 11 = .ok (.bipush 10, 2) := dk_16 10 (dk_at dksX3_blanks_0 11 rfl rfl)
theorem dX3_blanks_13 : decode cX3_blanks 13 = .ok (.invokevirtual 133, 3) := dk_182 0 133 (dk_at dksX3_blanks_0 13 rfl rfl)
theorem dX3_blanks_16 : decode cX3_blanks 16 = .ok (.ifCond .ne 14, 3) := dk_154 0 14 (dk_at dksX3_blanks_0 16 rfl rfl)
theorem dX3_blanks_19 : decode cX3_blanks 19 = .ok (.aload_n 0, 1) := dk_42 (dk_at dksX3_blanks_0 19 rfl rfl)
theorem dX3_blanks_20 : decode cX3_blanks 20 = .ok (.bipush 32, 2) := dk_16 32 (dk_at dksX3_blanks_0 20 rfl rfl)
theorem dX3_blanks_22 : decode cX3_blanks 22 = .ok (.bipush 32, 2) := dk_16 32 (dk_at dksX3_blanks_0 22 rfl rfl)
theorem dX3_blanks_24 : decode cX3_blanks 24 = .ok (.invokevirtual 133, 3) := dk_182 0 133 (dk_at dksX3_blanks_1 0 rfl rfl)
theorem dX3_blanks_27 : decode cX3_blanks 27 = .ok (.ifCond .eq 16, 3) := dk_153 0 16 (dk_at dksX3_blanks_1 3 rfl rfl)
theorem dX3_blanks_30 : decode cX3_blanks 30 = .ok (.aload_n 0, 1) := dk_42 (dk_at dksX3_blanks_1 6 rfl rfl)
theorem dX3_blanks_31 : decode cX3_blanks 31 = .ok (.dup, 1) := dk_89 (dk_at dksX3_blanks_1 7 rfl rfl)
theorem dX3_blanks_32 : decode cX3_blanks 32 = .ok (.getfield 123, 3) := dk_180 0 123 (dk_at dksX3_blanks_1 8 rfl rfl)
theorem dX3_blanks_35 : decode cX3_blanks 35 = .ok (.iconst 1, 1) := dk_4 (dk_at dksX3_blanks_1 11 rfl rfl)
theorem dX3_blanks_36 : decode cX3_blanks 36 = .ok (.iadd, 1) := dk_96 (dk_at dksX3_blanks_1 12 rfl rfl)
theorem dX3_blanks_37 : decode cX3_blanks 37 = .ok (.putfield 123, 3) := dk_181 0 123 (dk_at dksX3_blanks_1 13 rfl rfl)
theorem dX3_blanks_40 : decode cX3_blanks 40 = .ok (.goto (-32), 3) := dk_167 255 224 (dk_at dksX3_blanks_1 16 rfl rfl)
theorem dX3_blanks_43 : decode cX3_blanks 43 = .ok (.aload_n 0, 1) := dk_42 (dk_at dksX3_blanks_1 19 rfl rfl)
theorem dX3_blanks_44 : decode cX3_blanks 44 = .ok (.aload_n 0, 1) := dk_42 (dk_at dksX3_blanks_1 20 rfl rfl)
theorem dX3_blanks_45 : decode cX3_blanks 45 = .ok (.getfield 123, 3) := dk_180 0 123 (dk_at dksX3_blanks_1 21 rfl rfl)
theorem dX3_blanks_48 : decode cX3_blanks 48 = .ok (.putfield 137, 3) := dk_181 0 137 (dk_at dksX3_blanks_2 0 rfl rfl)
theorem dX3_blanks_51 : decode cX3_blanks 51 = .ok (.return_, 1) := dk_177 (dk_at dksX3_blanks_2 3 rfl rfl)
abbrev cX3_takesSign : ByteArray := prog_39_method_33_code
def yX3_takesSign : MethodName := ⟨RX3, "takesSign", "(I)Z"⟩
def dkwX3_takesSign_1 : List UInt8 := [3, 61, 28, 153, 0, 13, 42, 89, 180, 0, 123, 4, 96, 181, 0, 123, 28, 172]
abbrev dktX3_takesSign_1 : List UInt8 := dkwX3_takesSign_1 ++ []
def dkwX3_takesSign_0 : List UInt8 := [42, 182, 0, 143, 42, 182, 0, 129, 154, 0, 16, 42, 27, 27, 182, 0, 133, 153, 0, 7, 4, 167, 0, 4]
abbrev dktX3_takesSign_0 : List UInt8 := dkwX3_takesSign_0 ++ dktX3_takesSign_1
theorem dksX3_takesSign_0 : cX3_takesSign.data.toList.drop 0 = dktX3_takesSign_0 := by decide +kernel
theorem dksX3_takesSign_1 : cX3_takesSign.data.toList.drop 24 = dktX3_takesSign_1 := dk_seg dksX3_takesSign_0 24 rfl rfl
theorem dX3_takesSign_0 : decode cX3_takesSign 0 = .ok (.aload_n 0, 1) := dk_42 (dk_at dksX3_takesSign_0 0 rfl rfl)
theorem dX3_takesSign_1 : decode cX3_takesSign 1 = .ok (.invokevirtual 143, 3) := dk_182 0 143 (dk_at dksX3_takesSign_0 1 rfl rfl)
theorem dX3_takesSign_4 : decode cX3_takesSign 4 = .ok (.aload_n 0, 1) := dk_42 (dk_at dksX3_takesSign_0 4 rfl rfl)
theorem dX3_takesSign_5 : decode cX3_takesSign 5 = .ok (.invokevirtual 129, 3) := dk_182 0 129 (dk_at dksX3_takesSign_0 5 rfl rfl)
theorem dX3_takesSign_8 : decode cX3_takesSign 8 = .ok (.ifCond .ne 16, 3) := dk_154 0 16 (dk_at dksX3_takesSign_0 8 rfl rfl)
theorem dX3_takesSign_11 : decode cX3_takesSign 11 = .ok (.aload_n 0, 1) := dk_42 (dk_at dksX3_takesSign_0 11 rfl rfl)
theorem dX3_takesSign_12 : decode cX3_takesSign 12 = .ok (.iload_n 1, 1) := dk_27 (dk_at dksX3_takesSign_0 12 rfl rfl)
theorem dX3_takesSign_13 : decode cX3_takesSign 13 = .ok (.iload_n 1, 1) := dk_27 (dk_at dksX3_takesSign_0 13 rfl rfl)
theorem dX3_takesSign_14 : decode cX3_takesSign 14 = .ok (.invokevirtual 133, 3) := dk_182 0 133 (dk_at dksX3_takesSign_0 14 rfl rfl)
theorem dX3_takesSign_17 : decode cX3_takesSign 17 = .ok (.ifCond .eq 7, 3) := dk_153 0 7 (dk_at dksX3_takesSign_0 17 rfl rfl)
theorem dX3_takesSign_20 : decode cX3_takesSign 20 = .ok (.iconst 1, 1) := dk_4 (dk_at dksX3_takesSign_0 20 rfl rfl)
theorem dX3_takesSign_21 : decode cX3_takesSign 21 = .ok (.goto 4, 3) := dk_167 0 4 (dk_at dksX3_takesSign_0 21 rfl rfl)
theorem dX3_takesSign_24 : decode cX3_takesSign 24 = .ok (.iconst 0, 1) := dk_3 (dk_at dksX3_takesSign_1 0 rfl rfl)
theorem dX3_takesSign_25 : decode cX3_takesSign 25 = .ok (.istore_n 2, 1) := dk_61 (dk_at dksX3_takesSign_1 1 rfl rfl)
theorem dX3_takesSign_26 : decode cX3_takesSign 26 = .ok (.iload_n 2, 1) := dk_28 (dk_at dksX3_takesSign_1 2 rfl rfl)
theorem dX3_takesSign_27 : decode cX3_takesSign 27 = .ok (.ifCond .eq 13, 3) := dk_153 0 13 (dk_at dksX3_takesSign_1 3 rfl rfl)
theorem dX3_takesSign_30 : decode cX3_takesSign 30 = .ok (.aload_n 0, 1) := dk_42 (dk_at dksX3_takesSign_1 6 rfl rfl)
theorem dX3_takesSign_31 : decode cX3_takesSign 31 = .ok (.dup, 1) := dk_89 (dk_at dksX3_takesSign_1 7 rfl rfl)
theorem dX3_takesSign_32 : decode cX3_takesSign 32 = .ok (.getfield 123, 3) := dk_180 0 123 (dk_at dksX3_takesSign_1 8 rfl rfl)
theorem dX3_takesSign_35 : decode cX3_takesSign 35 = .ok (.iconst 1, 1) := dk_4 (dk_at dksX3_takesSign_1 11 rfl rfl)
theorem dX3_takesSign_36 : decode cX3_takesSign 36 = .ok (.iadd, 1) := dk_96 (dk_at dksX3_takesSign_1 12 rfl rfl)
theorem dX3_takesSign_37 : decode cX3_takesSign 37 = .ok (.putfield 123, 3) := dk_181 0 123 (dk_at dksX3_takesSign_1 13 rfl rfl)
theorem dX3_takesSign_40 : decode cX3_takesSign 40 = .ok (.iload_n 2, 1) := dk_28 (dk_at dksX3_takesSign_1 16 rfl rfl)
theorem dX3_takesSign_41 : decode cX3_takesSign 41 = .ok (.ireturn, 1) := dk_172 (dk_at dksX3_takesSign_1 17 rfl rfl)
abbrev cX3_must : ByteArray := prog_39_method_30_code
def yX3_must : MethodName := ⟨RX3, "must", "(ZI)V"⟩
def dkwX3_must_1 : List UInt8 := [181, 0, 140, 177]
abbrev dktX3_must_1 : List UInt8 := dkwX3_must_1 ++ []
def dkwX3_must_0 : List UInt8 := [27, 154, 0, 10, 42, 182, 0, 129, 153, 0, 4, 177, 42, 42, 180, 0, 137, 181, 0, 120, 42, 28]
abbrev dktX3_must_0 : List UInt8 := dkwX3_must_0 ++ dktX3_must_1
theorem dksX3_must_0 : cX3_must.data.toList.drop 0 = dktX3_must_0 := by decide +kernel
theorem dksX3_must_1 : cX3_must.data.toList.drop 22 = dktX3_must_1 := dk_seg dksX3_must_0 22 rfl rfl
theorem dX3_must_0 : decode cX3_must 0 = .ok (.iload_n 1, 1) := dk_27 (dk_at dksX3_must_0 0 rfl rfl)
theorem dX3_must_1 : decode cX3_must 1 = .ok (.ifCond .ne 10, 3) := dk_154 0 10 (dk_at dksX3_must_0 1 rfl rfl)
theorem dX3_must_4 : decode cX3_must 4 = .ok (.aload_n 0, 1) := dk_42 (dk_at dksX3_must_0 4 rfl rfl)
theorem dX3_must_5 : decode cX3_must 5 = .ok (.invokevirtual 129, 3) := dk_182 0 129 (dk_at dksX3_must_0 5 rfl rfl)
theorem dX3_must_8 : decode cX3_must 8 = .ok (.ifCond .eq 4, 3) := dk_153 0 4 (dk_at dksX3_must_0 8 rfl rfl)
theorem dX3_must_11 : decode cX3_must 11 = .ok (.return_, 1) := dk_177 (dk_at dksX3_must_0 11 rfl rfl)
theorem dX3_must_12 : decode cX3_must 12 = .ok (.aload_n 0, 1) := dk_42 (dk_at dksX3_must_0 12 rfl rfl)
theorem dX3_must_13 : decode cX3_must 13 = .ok (.aload_n 0, 1) := dk_42 (dk_at dksX3_must_0 13 rfl rfl)
theorem dX3_must_14 : decode cX3_must 14 = .ok (.getfield 137, 3) := dk_180 0 137 (dk_at dksX3_must_0 14 rfl rfl)
theorem dX3_must_17 : decode cX3_must 17 = .ok (.putfield 120, 3) := dk_181 0 120 (dk_at dksX3_must_0 17 rfl rfl)
theorem dX3_must_20 : decode cX3_must 20 = .ok (.aload_n 0, 1) := dk_42 (dk_at dksX3_must_0 20 rfl rfl)
theorem dX3_must_21 : decode cX3_must 21 = .ok (.iload_n 2, 1) := dk_28 (dk_at dksX3_must_0 21 rfl rfl)
theorem dX3_must_22 : decode cX3_must 22 = .ok (.putfield 140, 3) := dk_181 0 140 (dk_at dksX3_must_1 0 rfl rfl)
theorem dX3_must_25 : decode cX3_must 25 = .ok (.return_, 1) := dk_177 (dk_at dksX3_must_1 3 rfl rfl)
abbrev cX3_needs : ByteArray := prog_39_method_34_code
def yX3_needs : MethodName := ⟨RX3, "needs", "(I)V"⟩
def dkwX3_needs_0 : List UInt8 := [42, 27, 182, 0, 159, 61, 42, 28, 4, 182, 0, 163, 177]
abbrev dktX3_needs_0 : List UInt8 := dkwX3_needs_0 ++ []
theorem dksX3_needs_0 : cX3_needs.data.toList.drop 0 = dktX3_needs_0 := by decide +kernel
theorem dX3_needs_0 : decode cX3_needs 0 = .ok (.aload_n 0, 1) := dk_42 (dk_at dksX3_needs_0 0 rfl rfl)
theorem dX3_needs_1 : decode cX3_needs 1 = .ok (.iload_n 1, 1) := dk_27 (dk_at dksX3_needs_0 1 rfl rfl)
theorem dX3_needs_2 : decode cX3_needs 2 = .ok (.invokevirtual 159, 3) := dk_182 0 159 (dk_at dksX3_needs_0 2 rfl rfl)
theorem dX3_needs_5 : decode cX3_needs 5 = .ok (.istore_n 2, 1) := dk_61 (dk_at dksX3_needs_0 5 rfl rfl)
theorem dX3_needs_6 : decode cX3_needs 6 = .ok (.aload_n 0, 1) := dk_42 (dk_at dksX3_needs_0 6 rfl rfl)
theorem dX3_needs_7 : decode cX3_needs 7 = .ok (.iload_n 2, 1) := dk_28 (dk_at dksX3_needs_0 7 rfl rfl)
theorem dX3_needs_8 : decode cX3_needs 8 = .ok (.iconst 1, 1) := dk_4 (dk_at dksX3_needs_0 8 rfl rfl)
theorem dX3_needs_9 : decode cX3_needs 9 = .ok (.invokevirtual 163, 3) := dk_182 0 163 (dk_at dksX3_needs_0 9 rfl rfl)
theorem dX3_needs_12 : decode cX3_needs 12 = .ok (.return_, 1) := dk_177 (dk_at dksX3_needs_0 12 rfl rfl)
abbrev cJ9_coder : ByteArray := prog_59_method_152_code
def yJ9_coder : MethodName := ⟨RJ9, "coder", "()B"⟩
def dkwJ9_coder_0 : List UInt8 := [178, 0, 38, 153, 0, 10, 42, 180, 0, 15, 167, 0, 4, 4, 172]
abbrev dktJ9_coder_0 : List UInt8 := dkwJ9_coder_0 ++ []
theorem dksJ9_coder_0 : cJ9_coder.data.toList.drop 0 = dktJ9_coder_0 := by decide +kernel
theorem dJ9_coder_0 : decode cJ9_coder 0 = .ok (.getstatic 38, 3) := dk_178 0 38 (dk_at dksJ9_coder_0 0 rfl rfl)
theorem dJ9_coder_3 : decode cJ9_coder 3 = .ok (.ifCond .eq 10, 3) := dk_153 0 10 (dk_at dksJ9_coder_0 3 rfl rfl)
theorem dJ9_coder_6 : decode cJ9_coder 6 = .ok (.aload_n 0, 1) := dk_42 (dk_at dksJ9_coder_0 6 rfl rfl)
theorem dJ9_coder_7 : decode cJ9_coder 7 = .ok (.getfield 15, 3) := dk_180 0 15 (dk_at dksJ9_coder_0 7 rfl rfl)
theorem dJ9_coder_10 : decode cJ9_coder 10 = .ok (.goto 4, 3) := dk_167 0 4 (dk_at dksJ9_coder_0 10 rfl rfl)
theorem dJ9_coder_13 : decode cJ9_coder 13 = .ok (.iconst 1, 1) := dk_4 (dk_at dksJ9_coder_0 13 rfl rfl)
theorem dJ9_coder_14 : decode cJ9_coder 14 = .ok (.ireturn, 1) := dk_172 (dk_at dksJ9_coder_0 14 rfl rfl)
abbrev cJ9_length : ByteArray := prog_59_method_54_code
def yJ9_length : MethodName := ⟨RJ9, "length", "()I"⟩
def dkwJ9_length_0 : List UInt8 := [42, 180, 0, 9, 190, 42, 182, 1, 79, 122, 172]
abbrev dktJ9_length_0 : List UInt8 := dkwJ9_length_0 ++ []
theorem dksJ9_length_0 : cJ9_length.data.toList.drop 0 = dktJ9_length_0 := by decide +kernel
theorem dJ9_length_0 : decode cJ9_length 0 = .ok (.aload_n 0, 1) := dk_42 (dk_at dksJ9_length_0 0 rfl rfl)
theorem dJ9_length_1 : decode cJ9_length 1 = .ok (.getfield 9, 3) := dk_180 0 9 (dk_at dksJ9_length_0 1 rfl rfl)
theorem dJ9_length_4 : decode cJ9_length 4 = .ok (.arraylength, 1) := dk_190 (dk_at dksJ9_length_0 4 rfl rfl)
theorem dJ9_length_5 : decode cJ9_length 5 = .ok (.aload_n 0, 1) := dk_42 (dk_at dksJ9_length_0 5 rfl rfl)
theorem dJ9_length_6 : decode cJ9_length 6 = .ok (.invokevirtual 335, 3) := dk_182 1 79 (dk_at dksJ9_length_0 6 rfl rfl)
theorem dJ9_length_9 : decode cJ9_length 9 = .ok (.ishr, 1) := dk_122 (dk_at dksJ9_length_0 9 rfl rfl)
theorem dJ9_length_10 : decode cJ9_length 10 = .ok (.ireturn, 1) := dk_172 (dk_at dksJ9_length_0 10 rfl rfl)
abbrev cJ9_isLatin1 : ByteArray := prog_59_method_154_code
def yJ9_isLatin1 : MethodName := ⟨RJ9, "isLatin1", "()Z"⟩
def dkwJ9_isLatin1_0 : List UInt8 := [178, 0, 38, 153, 0, 14, 42, 180, 0, 15, 154, 0, 7, 4, 167, 0, 4, 3, 172]
abbrev dktJ9_isLatin1_0 : List UInt8 := dkwJ9_isLatin1_0 ++ []
theorem dksJ9_isLatin1_0 : cJ9_isLatin1.data.toList.drop 0 = dktJ9_isLatin1_0 := by decide +kernel
theorem dJ9_isLatin1_0 : decode cJ9_isLatin1 0 = .ok (.getstatic 38, 3) := dk_178 0 38 (dk_at dksJ9_isLatin1_0 0 rfl rfl)
theorem dJ9_isLatin1_3 : decode cJ9_isLatin1 3 = .ok (.ifCond .eq 14, 3) := dk_153 0 14 (dk_at dksJ9_isLatin1_0 3 rfl rfl)
theorem dJ9_isLatin1_6 : decode cJ9_isLatin1 6 = .ok (.aload_n 0, 1) := dk_42 (dk_at dksJ9_isLatin1_0 6 rfl rfl)
theorem dJ9_isLatin1_7 : decode cJ9_isLatin1 7 = .ok (.getfield 15, 3) := dk_180 0 15 (dk_at dksJ9_isLatin1_0 7 rfl rfl)
theorem dJ9_isLatin1_10 : decode cJ9_isLatin1 10 = .ok (.ifCond .ne 7, 3) := dk_154 0 7 (dk_at dksJ9_isLatin1_0 10 rfl rfl)
theorem dJ9_isLatin1_13 : decode cJ9_isLatin1 13 = .ok (.iconst 1, 1) := dk_4 (dk_at dksJ9_isLatin1_0 13 rfl rfl)
theorem dJ9_isLatin1_14 : decode cJ9_isLatin1 14 = .ok (.goto 4, 3) := dk_167 0 4 (dk_at dksJ9_isLatin1_0 14 rfl rfl)
theorem dJ9_isLatin1_17 : decode cJ9_isLatin1 17 = .ok (.iconst 0, 1) := dk_3 (dk_at dksJ9_isLatin1_0 17 rfl rfl)
theorem dJ9_isLatin1_18 : decode cJ9_isLatin1 18 = .ok (.ireturn, 1) := dk_172 (dk_at dksJ9_isLatin1_0 18 rfl rfl)
abbrev cJ14_checkIndex : ByteArray := prog_116_method_11_code
def yJ14_checkIndex : MethodName := ⟨RJ14, "checkIndex", "(IILjava/util/function/BiFunction;)I"⟩
def dkwJ14_checkIndex_0 : List UInt8 := [26, 155, 0, 8, 26, 27, 161, 0, 10, 44, 26, 27, 184, 0, 95, 191, 26, 172]
abbrev dktJ14_checkIndex_0 : List UInt8 := dkwJ14_checkIndex_0 ++ []
theorem dksJ14_checkIndex_0 : cJ14_checkIndex.data.toList.drop 0 = dktJ14_checkIndex_0 := by decide +kernel
theorem dJ14_checkIndex_0 : decode cJ14_checkIndex 0 = .ok (.iload_n 0, 1) := dk_26 (dk_at dksJ14_checkIndex_0 0 rfl rfl)
theorem dJ14_checkIndex_1 : decode cJ14_checkIndex 1 = .ok (.ifCond .lt 8, 3) := dk_155 0 8 (dk_at dksJ14_checkIndex_0 1 rfl rfl)
theorem dJ14_checkIndex_4 : decode cJ14_checkIndex 4 = .ok (.iload_n 0, 1) := dk_26 (dk_at dksJ14_checkIndex_0 4 rfl rfl)
theorem dJ14_checkIndex_5 : decode cJ14_checkIndex 5 = .ok (.iload_n 1, 1) := dk_27 (dk_at dksJ14_checkIndex_0 5 rfl rfl)
theorem dJ14_checkIndex_6 : decode cJ14_checkIndex 6 = .ok (.if_icmp .lt 10, 3) := dk_161 0 10 (dk_at dksJ14_checkIndex_0 6 rfl rfl)
theorem dJ14_checkIndex_9 : decode cJ14_checkIndex 9 = .ok (.aload_n 2, 1) := dk_44 (dk_at dksJ14_checkIndex_0 9 rfl rfl)
theorem dJ14_checkIndex_10 : decode cJ14_checkIndex 10 = .ok (.iload_n 0, 1) := dk_26 (dk_at dksJ14_checkIndex_0 10 rfl rfl)
theorem dJ14_checkIndex_11 : decode cJ14_checkIndex 11 = .ok (.iload_n 1, 1) := dk_27 (dk_at dksJ14_checkIndex_0 11 rfl rfl)
theorem dJ14_checkIndex_12 : decode cJ14_checkIndex 12 = .ok (.invokestatic 95, 3) := dk_184 0 95 (dk_at dksJ14_checkIndex_0 12 rfl rfl)
theorem dJ14_checkIndex_16 : decode cJ14_checkIndex 16 = .ok (.iload_n 0, 1) := dk_26 (dk_at dksJ14_checkIndex_0 16 rfl rfl)
theorem dJ14_checkIndex_17 : decode cJ14_checkIndex 17 = .ok (.ireturn, 1) := dk_172 (dk_at dksJ14_checkIndex_0 17 rfl rfl)
abbrev cJ9_checkIndex : ByteArray := prog_59_method_155_code
def yJ9_checkIndex : MethodName := ⟨RJ9, "checkIndex", "(II)V"⟩
def dkwJ9_checkIndex_0 : List UInt8 := [26, 27, 178, 4, 29, 184, 4, 35, 87, 177]
abbrev dktJ9_checkIndex_0 : List UInt8 := dkwJ9_checkIndex_0 ++ []
theorem dksJ9_checkIndex_0 : cJ9_checkIndex.data.toList.drop 0 = dktJ9_checkIndex_0 := by decide +kernel
theorem dJ9_checkIndex_0 : decode cJ9_checkIndex 0 = .ok (.iload_n 0, 1) := dk_26 (dk_at dksJ9_checkIndex_0 0 rfl rfl)
theorem dJ9_checkIndex_1 : decode cJ9_checkIndex 1 = .ok (.iload_n 1, 1) := dk_27 (dk_at dksJ9_checkIndex_0 1 rfl rfl)
theorem dJ9_checkIndex_2 : decode cJ9_checkIndex 2 = .ok (.getstatic 1053, 3) := dk_178 4 29 (dk_at dksJ9_checkIndex_0 2 rfl rfl)
theorem dJ9_checkIndex_5 : decode cJ9_checkIndex 5 = .ok (.invokestatic 1059, 3) := dk_184 4 35 (dk_at dksJ9_checkIndex_0 5 rfl rfl)
theorem dJ9_checkIndex_8 : decode cJ9_checkIndex 8 = .ok (.pop, 1) := dk_87 (dk_at dksJ9_checkIndex_0 8 rfl rfl)
theorem dJ9_checkIndex_9 : decode cJ9_checkIndex 9 = .ok (.return_, 1) := dk_177 (dk_at dksJ9_checkIndex_0 9 rfl rfl)
abbrev cJ15_charAt : ByteArray := prog_61_method_2_code
def yJ15_charAt : MethodName := ⟨RJ15, "charAt", "([BI)C"⟩
def dkwJ15_charAt_0 : List UInt8 := [27, 42, 190, 184, 0, 9, 42, 27, 51, 17, 0, 255, 126, 146, 172]
abbrev dktJ15_charAt_0 : List UInt8 := dkwJ15_charAt_0 ++ []
theorem dksJ15_charAt_0 : cJ15_charAt.data.toList.drop 0 = dktJ15_charAt_0 := by decide +kernel
theorem dJ15_charAt_0 : decode cJ15_charAt 0 = .ok (.iload_n 1, 1) := dk_27 (dk_at dksJ15_charAt_0 0 rfl rfl)
theorem dJ15_charAt_1 : decode cJ15_charAt 1 = .ok (.aload_n 0, 1) := dk_42 (dk_at dksJ15_charAt_0 1 rfl rfl)
theorem dJ15_charAt_2 : decode cJ15_charAt 2 = .ok (.arraylength, 1) := dk_190 (dk_at dksJ15_charAt_0 2 rfl rfl)
theorem dJ15_charAt_3 : decode cJ15_charAt 3 = .ok (.invokestatic 9, 3) := dk_184 0 9 (dk_at dksJ15_charAt_0 3 rfl rfl)
theorem dJ15_charAt_6 : decode cJ15_charAt 6 = .ok (.aload_n 0, 1) := dk_42 (dk_at dksJ15_charAt_0 6 rfl rfl)
theorem dJ15_charAt_7 : decode cJ15_charAt 7 = .ok (.iload_n 1, 1) := dk_27 (dk_at dksJ15_charAt_0 7 rfl rfl)
theorem dJ15_charAt_8 : decode cJ15_charAt 8 = .ok (.baload, 1) := dk_51 (dk_at dksJ15_charAt_0 8 rfl rfl)
theorem dJ15_charAt_9 : decode cJ15_charAt 9 = .ok (.sipush 255, 3) := dk_17 0 255 (dk_at dksJ15_charAt_0 9 rfl rfl)
theorem dJ15_charAt_12 : decode cJ15_charAt 12 = .ok (.iand, 1) := dk_126 (dk_at dksJ15_charAt_0 12 rfl rfl)
theorem dJ15_charAt_13 : decode cJ15_charAt 13 = .ok (.i2c, 1) := dk_146 (dk_at dksJ15_charAt_0 13 rfl rfl)
theorem dJ15_charAt_14 : decode cJ15_charAt 14 = .ok (.ireturn, 1) := dk_172 (dk_at dksJ15_charAt_0 14 rfl rfl)
abbrev cJ9_charAt : ByteArray := prog_59_method_56_code
def yJ9_charAt : MethodName := ⟨RJ9, "charAt", "(I)C"⟩
def dkwJ9_charAt_1 : List UInt8 := [172]
abbrev dktJ9_charAt_1 : List UInt8 := dkwJ9_charAt_1 ++ []
def dkwJ9_charAt_0 : List UInt8 := [42, 182, 1, 236, 153, 0, 12, 42, 180, 0, 9, 27, 184, 1, 239, 172, 42, 180, 0, 9, 27, 184, 1, 242]
abbrev dktJ9_charAt_0 : List UInt8 := dkwJ9_charAt_0 ++ dktJ9_charAt_1
theorem dksJ9_charAt_0 : cJ9_charAt.data.toList.drop 0 = dktJ9_charAt_0 := by decide +kernel
theorem dksJ9_charAt_1 : cJ9_charAt.data.toList.drop 24 = dktJ9_charAt_1 := dk_seg dksJ9_charAt_0 24 rfl rfl
theorem dJ9_charAt_0 : decode cJ9_charAt 0 = .ok (.aload_n 0, 1) := dk_42 (dk_at dksJ9_charAt_0 0 rfl rfl)
theorem dJ9_charAt_1 : decode cJ9_charAt 1 = .ok (.invokevirtual 492, 3) := dk_182 1 236 (dk_at dksJ9_charAt_0 1 rfl rfl)
theorem dJ9_charAt_4 : decode cJ9_charAt 4 = .ok (.ifCond .eq 12, 3) := dk_153 0 12 (dk_at dksJ9_charAt_0 4 rfl rfl)
theorem dJ9_charAt_7 : decode cJ9_charAt 7 = .ok (.aload_n 0, 1) := dk_42 (dk_at dksJ9_charAt_0 7 rfl rfl)
theorem dJ9_charAt_8 : decode cJ9_charAt 8 = .ok (.getfield 9, 3) := dk_180 0 9 (dk_at dksJ9_charAt_0 8 rfl rfl)
theorem dJ9_charAt_11 : decode cJ9_charAt 11 = .ok (.iload_n 1, 1) := dk_27 (dk_at dksJ9_charAt_0 11 rfl rfl)
theorem dJ9_charAt_12 : decode cJ9_charAt 12 = .ok (.invokestatic 495, 3) := dk_184 1 239 (dk_at dksJ9_charAt_0 12 rfl rfl)
theorem dJ9_charAt_15 : decode cJ9_charAt 15 = .ok (.ireturn, 1) := dk_172 (dk_at dksJ9_charAt_0 15 rfl rfl)
theorem dJ9_charAt_16 : decode cJ9_charAt 16 = .ok (.aload_n 0, 1) := dk_42 (dk_at dksJ9_charAt_0 16 rfl rfl)
theorem dJ9_charAt_17 : decode cJ9_charAt 17 = .ok (.getfield 9, 3) := dk_180 0 9 (dk_at dksJ9_charAt_0 17 rfl rfl)
theorem dJ9_charAt_20 : decode cJ9_charAt 20 = .ok (.iload_n 1, 1) := dk_27 (dk_at dksJ9_charAt_0 20 rfl rfl)
theorem dJ9_charAt_21 : decode cJ9_charAt 21 = .ok (.invokestatic 498, 3) := dk_184 1 242 (dk_at dksJ9_charAt_0 21 rfl rfl)
theorem dJ9_charAt_24 : decode cJ9_charAt 24 = .ok (.ireturn, 1) := dk_172 (dk_at dksJ9_charAt_1 0 rfl rfl)
abbrev cX3_wordHere : ByteArray := prog_39_method_31_code
def yX3_wordHere : MethodName := ⟨RX3, "wordHere", "()I"⟩
def dkwX3_wordHere_2 : List UInt8 := [180, 0, 123, 100, 172]
abbrev dktX3_wordHere_2 : List UInt8 := dkwX3_wordHere_2 ++ []
def dkwX3_wordHere_1 : List UInt8 := [16, 97, 161, 0, 20, 42, 180, 0, 37, 27, 51, 16, 122, 163, 0, 9, 132, 1, 1, 167, 255, 223, 27, 42]
abbrev dktX3_wordHere_1 : List UInt8 := dkwX3_wordHere_1 ++ dktX3_wordHere_2
def dkwX3_wordHere_0 : List UInt8 := [42, 182, 0, 143, 42, 180, 0, 123, 60, 27, 42, 180, 0, 126, 162, 0, 31, 42, 180, 0, 37, 27, 51]
abbrev dktX3_wordHere_0 : List UInt8 := dkwX3_wordHere_0 ++ dktX3_wordHere_1
theorem dksX3_wordHere_0 : cX3_wordHere.data.toList.drop 0 = dktX3_wordHere_0 := by decide +kernel
theorem dksX3_wordHere_1 : cX3_wordHere.data.toList.drop 23 = dktX3_wordHere_1 := dk_seg dksX3_wordHere_0 23 rfl rfl
theorem dksX3_wordHere_2 : cX3_wordHere.data.toList.drop 47 = dktX3_wordHere_2 := dk_seg dksX3_wordHere_1 24 rfl rfl
theorem dX3_wordHere_0 : decode cX3_wordHere 0 = .ok (.aload_n 0, 1) := dk_42 (dk_at dksX3_wordHere_0 0 rfl rfl)
theorem dX3_wordHere_1 : decode cX3_wordHere 1 = .ok (.invokevirtual 143, 3) := dk_182 0 143 (dk_at dksX3_wordHere_0 1 rfl rfl)
theorem dX3_wordHere_4 : decode cX3_wordHere 4 = .ok (.aload_n 0, 1) := dk_42 (dk_at dksX3_wordHere_0 4 rfl rfl)
theorem dX3_wordHere_5 : decode cX3_wordHere 5 = .ok (.getfield 123, 3) := dk_180 0 123 (dk_at dksX3_wordHere_0 5 rfl rfl)
theorem dX3_wordHere_8 : decode cX3_wordHere 8 = .ok (.istore_n 1, 1) := dk_60 (dk_at dksX3_wordHere_0 8 rfl rfl)
theorem dX3_wordHere_9 : decode cX3_wordHere 9 = .ok (.iload_n 1, 1) := dk_27 (dk_at dksX3_wordHere_0 9 rfl rfl)
theorem dX3_wordHere_10 : decode cX3_wordHere 10 = .ok (.aload_n 0, 1) := dk_42 (dk_at dksX3_wordHere_0 10 rfl rfl)
theorem dX3_wordHere_11 : decode cX3_wordHere 11 = .ok (.getfield 126, 3) := dk_180 0 126 (dk_at dksX3_wordHere_0 11 rfl rfl)
theorem dX3_wordHere_14 : decode cX3_wordHere 14 = .ok (.if_icmp .ge 31, 3) := dk_162 0 31 (dk_at dksX3_wordHere_0 14 rfl rfl)
theorem dX3_wordHere_17 : decode cX3_wordHere 17 = .ok (.aload_n 0, 1) := dk_42 (dk_at dksX3_wordHere_0 17 rfl rfl)
theorem dX3_wordHere_18 : decode cX3_wordHere 18 = .ok (.getfield 37, 3) := dk_180 0 37 (dk_at dksX3_wordHere_0 18 rfl rfl)
theorem dX3_wordHere_21 : decode cX3_wordHere 21 = .ok (.iload_n 1, 1) := dk_27 (dk_at dksX3_wordHere_0 21 rfl rfl)
theorem dX3_wordHere_22 : decode cX3_wordHere 22 = .ok (.baload, 1) := dk_51 (dk_at dksX3_wordHere_0 22 rfl rfl)
theorem dX3_wordHere_23 : decode cX3_wordHere 23 = .ok (.bipush 97, 2) := dk_16 97 (dk_at dksX3_wordHere_1 0 rfl rfl)
theorem dX3_wordHere_25 : decode cX3_wordHere 25 = .ok (.if_icmp .lt 20, 3) := dk_161 0 20 (dk_at dksX3_wordHere_1 2 rfl rfl)
theorem dX3_wordHere_28 : decode cX3_wordHere 28 = .ok (.aload_n 0, 1) := dk_42 (dk_at dksX3_wordHere_1 5 rfl rfl)
theorem dX3_wordHere_29 : decode cX3_wordHere 29 = .ok (.getfield 37, 3) := dk_180 0 37 (dk_at dksX3_wordHere_1 6 rfl rfl)
theorem dX3_wordHere_32 : decode cX3_wordHere 32 = .ok (.iload_n 1, 1) := dk_27 (dk_at dksX3_wordHere_1 9 rfl rfl)
theorem dX3_wordHere_33 : decode cX3_wordHere 33 = .ok (.baload, 1) := dk_51 (dk_at dksX3_wordHere_1 10 rfl rfl)
theorem dX3_wordHere_34 : decode cX3_wordHere 34 = .ok (.bipush 122, 2) := dk_16 122 (dk_at dksX3_wordHere_1 11 rfl rfl)
theorem dX3_wordHere_36 : decode cX3_wordHere 36 = .ok (.if_icmp .gt 9, 3) := dk_163 0 9 (dk_at dksX3_wordHere_1 13 rfl rfl)
theorem dX3_wordHere_39 : decode cX3_wordHere 39 = .ok (.iinc 1 1, 3) := dk_132 1 1 (dk_at dksX3_wordHere_1 16 rfl rfl)
theorem dX3_wordHere_42 : decode cX3_wordHere 42 = .ok (.goto (-33), 3) := dk_167 255 223 (dk_at dksX3_wordHere_1 19 rfl rfl)
theorem dX3_wordHere_45 : decode cX3_wordHere 45 = .ok (.iload_n 1, 1) := dk_27 (dk_at dksX3_wordHere_1 22 rfl rfl)
theorem dX3_wordHere_46 : decode cX3_wordHere 46 = .ok (.aload_n 0, 1) := dk_42 (dk_at dksX3_wordHere_1 23 rfl rfl)
theorem dX3_wordHere_47 : decode cX3_wordHere 47 = .ok (.getfield 123, 3) := dk_180 0 123 (dk_at dksX3_wordHere_2 0 rfl rfl)
theorem dX3_wordHere_50 : decode cX3_wordHere 50 = .ok (.isub, 1) := dk_100 (dk_at dksX3_wordHere_2 3 rfl rfl)
theorem dX3_wordHere_51 : decode cX3_wordHere 51 = .ok (.ireturn, 1) := dk_172 (dk_at dksX3_wordHere_2 4 rfl rfl)
abbrev cX3_takes : ByteArray := prog_39_method_32_code
def yX3_takes : MethodName := ⟨RX3, "takes", "(Ljava/lang/String;)Z"⟩
def dkwX3_takes_3 : List UInt8 := [153, 0, 16, 42, 89, 180, 0, 123, 43, 182, 0, 150, 96, 181, 0, 123, 28, 172]
abbrev dktX3_takes_3 : List UInt8 := dkwX3_takes_3 ++ []
def dkwX3_takes_2 : List UInt8 := [51, 43, 29, 182, 0, 155, 160, 0, 7, 4, 167, 0, 4, 3, 61, 132, 3, 1, 167, 255, 216, 28]
abbrev dktX3_takes_2 : List UInt8 := dkwX3_takes_2 ++ dktX3_takes_3
def dkwX3_takes_1 : List UInt8 := [3, 62, 28, 153, 0, 42, 29, 43, 182, 0, 150, 162, 0, 34, 42, 180, 0, 37, 42, 180, 0, 123, 29, 96]
abbrev dktX3_takes_1 : List UInt8 := dkwX3_takes_1 ++ dktX3_takes_2
def dkwX3_takes_0 : List UInt8 := [42, 182, 0, 129, 154, 0, 18, 42, 182, 0, 146, 43, 182, 0, 150, 160, 0, 7, 4, 167, 0, 4, 3, 61]
abbrev dktX3_takes_0 : List UInt8 := dkwX3_takes_0 ++ dktX3_takes_1
theorem dksX3_takes_0 : cX3_takes.data.toList.drop 0 = dktX3_takes_0 := by decide +kernel
theorem dksX3_takes_1 : cX3_takes.data.toList.drop 24 = dktX3_takes_1 := dk_seg dksX3_takes_0 24 rfl rfl
theorem dksX3_takes_2 : cX3_takes.data.toList.drop 48 = dktX3_takes_2 := dk_seg dksX3_takes_1 24 rfl rfl
theorem dksX3_takes_3 : cX3_takes.data.toList.drop 70 = dktX3_takes_3 := dk_seg dksX3_takes_2 22 rfl rfl
theorem dX3_takes_0 : decode cX3_takes 0 = .ok (.aload_n 0, 1) := dk_42 (dk_at dksX3_takes_0 0 rfl rfl)
theorem dX3_takes_1 : decode cX3_takes 1 = .ok (.invokevirtual 129, 3) := dk_182 0 129 (dk_at dksX3_takes_0 1 rfl rfl)
theorem dX3_takes_4 : decode cX3_takes 4 = .ok (.ifCond .ne 18, 3) := dk_154 0 18 (dk_at dksX3_takes_0 4 rfl rfl)
theorem dX3_takes_7 : decode cX3_takes 7 = .ok (.aload_n 0, 1) := dk_42 (dk_at dksX3_takes_0 7 rfl rfl)
theorem dX3_takes_8 : decode cX3_takes 8 = .ok (.invokevirtual 146, 3) := dk_182 0 146 (dk_at dksX3_takes_0 8 rfl rfl)
theorem dX3_takes_11 : decode cX3_takes 11 = .ok (.aload_n 1, 1) := dk_43 (dk_at dksX3_takes_0 11 rfl rfl)
theorem dX3_takes_12 : decode cX3_takes 12 = .ok (.invokevirtual 150, 3) := dk_182 0 150 (dk_at dksX3_takes_0 12 rfl rfl)
theorem dX3_takes_15 : decode cX3_takes 15 = .ok (.if_icmp .ne 7, 3) := dk_160 0 7 (dk_at dksX3_takes_0 15 rfl rfl)
theorem dX3_takes_18 : decode cX3_takes 18 = .ok (.iconst 1, 1) := dk_4 (dk_at dksX3_takes_0 18 rfl rfl)
theorem dX3_takes_19 : decode cX3_takes 19 = .ok (.goto 4, 3) := dk_167 0 4 (dk_at dksX3_takes_0 19 rfl rfl)
theorem dX3_takes_22 : decode cX3_takes 22 = .ok (.iconst 0, 1) := dk_3 (dk_at dksX3_takes_0 22 rfl rfl)
theorem dX3_takes_23 : decode cX3_takes 23 = .ok (.istore_n 2, 1) := dk_61 (dk_at dksX3_takes_0 23 rfl rfl)
theorem dX3_takes_24 : decode cX3_takes 24 = .ok (.iconst 0, 1) := dk_3 (dk_at dksX3_takes_1 0 rfl rfl)
theorem dX3_takes_25 : decode cX3_takes 25 = .ok (.istore_n 3, 1) := dk_62 (dk_at dksX3_takes_1 1 rfl rfl)
theorem dX3_takes_26 : decode cX3_takes 26 = .ok (.iload_n 2, 1) := dk_28 (dk_at dksX3_takes_1 2 rfl rfl)
theorem dX3_takes_27 : decode cX3_takes 27 = .ok (.ifCond .eq 42, 3) := dk_153 0 42 (dk_at dksX3_takes_1 3 rfl rfl)
theorem dX3_takes_30 : decode cX3_takes 30 = .ok (.iload_n 3, 1) := dk_29 (dk_at dksX3_takes_1 6 rfl rfl)
theorem dX3_takes_31 : decode cX3_takes 31 = .ok (.aload_n 1, 1) := dk_43 (dk_at dksX3_takes_1 7 rfl rfl)
theorem dX3_takes_32 : decode cX3_takes 32 = .ok (.invokevirtual 150, 3) := dk_182 0 150 (dk_at dksX3_takes_1 8 rfl rfl)
theorem dX3_takes_35 : decode cX3_takes 35 = .ok (.if_icmp .ge 34, 3) := dk_162 0 34 (dk_at dksX3_takes_1 11 rfl rfl)
theorem dX3_takes_38 : decode cX3_takes 38 = .ok (.aload_n 0, 1) := dk_42 (dk_at dksX3_takes_1 14 rfl rfl)
theorem dX3_takes_39 : decode cX3_takes 39 = .ok (.getfield 37, 3) := dk_180 0 37 (dk_at dksX3_takes_1 15 rfl rfl)
theorem dX3_takes_42 : decode cX3_takes 42 = .ok (.aload_n 0, 1) := dk_42 (dk_at dksX3_takes_1 18 rfl rfl)
theorem dX3_takes_43 : decode cX3_takes 43 = .ok (.getfield 123, 3) := dk_180 0 123 (dk_at dksX3_takes_1 19 rfl rfl)
theorem dX3_takes_46 : decode cX3_takes 46 = .ok (.iload_n 3, 1) := dk_29 (dk_at dksX3_takes_1 22 rfl rfl)
theorem dX3_takes_47 : decode cX3_takes 47 = .ok (.iadd, 1) := dk_96 (dk_at dksX3_takes_1 23 rfl rfl)
theorem dX3_takes_48 : decode cX3_takes 48 = .ok (.baload, 1) := dk_51 (dk_at dksX3_takes_2 0 rfl rfl)
theorem dX3_takes_49 : decode cX3_takes 49 = .ok (.aload_n 1, 1) := dk_43 (dk_at dksX3_takes_2 1 rfl rfl)
theorem dX3_takes_50 : decode cX3_takes 50 = .ok (.iload_n 3, 1) := dk_29 (dk_at dksX3_takes_2 2 rfl rfl)
theorem dX3_takes_51 : decode cX3_takes 51 = .ok (.invokevirtual 155, 3) := dk_182 0 155 (dk_at dksX3_takes_2 3 rfl rfl)
theorem dX3_takes_54 : decode cX3_takes 54 = .ok (.if_icmp .ne 7, 3) := dk_160 0 7 (dk_at dksX3_takes_2 6 rfl rfl)
theorem dX3_takes_57 : decode cX3_takes 57 = .ok (.iconst 1, 1) := dk_4 (dk_at dksX3_takes_2 9 rfl rfl)
theorem dX3_takes_58 : decode cX3_takes 58 = .ok (.goto 4, 3) := dk_167 0 4 (dk_at dksX3_takes_2 10 rfl rfl)
theorem dX3_takes_61 : decode cX3_takes 61 = .ok (.iconst 0, 1) := dk_3 (dk_at dksX3_takes_2 13 rfl rfl)
theorem dX3_takes_62 : decode cX3_takes 62 = .ok (.istore_n 2, 1) := dk_61 (dk_at dksX3_takes_2 14 rfl rfl)
theorem dX3_takes_63 : decode cX3_takes 63 = .ok (.iinc 3 1, 3) := dk_132 3 1 (dk_at dksX3_takes_2 15 rfl rfl)
theorem dX3_takes_66 : decode cX3_takes 66 = .ok (.goto (-40), 3) := dk_167 255 216 (dk_at dksX3_takes_2 18 rfl rfl)
theorem dX3_takes_69 : decode cX3_takes 69 = .ok (.iload_n 2, 1) := dk_28 (dk_at dksX3_takes_2 21 rfl rfl)
theorem dX3_takes_70 : decode cX3_takes 70 = .ok (.ifCond .eq 16, 3) := dk_153 0 16 (dk_at dksX3_takes_3 0 rfl rfl)
theorem dX3_takes_73 : decode cX3_takes 73 = .ok (.aload_n 0, 1) := dk_42 (dk_at dksX3_takes_3 3 rfl rfl)
theorem dX3_takes_74 : decode cX3_takes 74 = .ok (.dup, 1) := dk_89 (dk_at dksX3_takes_3 4 rfl rfl)
theorem dX3_takes_75 : decode cX3_takes 75 = .ok (.getfield 123, 3) := dk_180 0 123 (dk_at dksX3_takes_3 5 rfl rfl)
theorem dX3_takes_78 : decode cX3_takes 78 = .ok (.aload_n 1, 1) := dk_43 (dk_at dksX3_takes_3 8 rfl rfl)
theorem dX3_takes_79 : decode cX3_takes 79 = .ok (.invokevirtual 150, 3) := dk_182 0 150 (dk_at dksX3_takes_3 9 rfl rfl)
theorem dX3_takes_82 : decode cX3_takes 82 = .ok (.iadd, 1) := dk_96 (dk_at dksX3_takes_3 12 rfl rfl)
theorem dX3_takes_83 : decode cX3_takes 83 = .ok (.putfield 123, 3) := dk_181 0 123 (dk_at dksX3_takes_3 13 rfl rfl)
theorem dX3_takes_86 : decode cX3_takes 86 = .ok (.iload_n 2, 1) := dk_28 (dk_at dksX3_takes_3 16 rfl rfl)
theorem dX3_takes_87 : decode cX3_takes 87 = .ok (.ireturn, 1) := dk_172 (dk_at dksX3_takes_3 17 rfl rfl)
abbrev cX3_puts : ByteArray := prog_39_method_40_code
def yX3_puts : MethodName := ⟨RX3, "puts", "(I)V"⟩
def dkwX3_puts_1 : List UInt8 := [180, 0, 30, 42, 180, 0, 182, 42, 180, 0, 30, 42, 180, 0, 182, 46, 96, 27, 79, 177]
abbrev dktX3_puts_1 : List UInt8 := dkwX3_puts_1 ++ []
def dkwX3_puts_0 : List UInt8 := [42, 182, 0, 129, 153, 0, 4, 177, 42, 180, 0, 30, 42, 180, 0, 182, 92, 46, 4, 96, 79, 42]
abbrev dktX3_puts_0 : List UInt8 := dkwX3_puts_0 ++ dktX3_puts_1
theorem dksX3_puts_0 : cX3_puts.data.toList.drop 0 = dktX3_puts_0 := by decide +kernel
theorem dksX3_puts_1 : cX3_puts.data.toList.drop 22 = dktX3_puts_1 := dk_seg dksX3_puts_0 22 rfl rfl
theorem dX3_puts_0 : decode cX3_puts 0 = .ok (.aload_n 0, 1) := dk_42 (dk_at dksX3_puts_0 0 rfl rfl)
theorem dX3_puts_1 : decode cX3_puts 1 = .ok (.invokevirtual 129, 3) := dk_182 0 129 (dk_at dksX3_puts_0 1 rfl rfl)
theorem dX3_puts_4 : decode cX3_puts 4 = .ok (.ifCond .eq 4, 3) := dk_153 0 4 (dk_at dksX3_puts_0 4 rfl rfl)
theorem dX3_puts_7 : decode cX3_puts 7 = .ok (.return_, 1) := dk_177 (dk_at dksX3_puts_0 7 rfl rfl)
theorem dX3_puts_8 : decode cX3_puts 8 = .ok (.aload_n 0, 1) := dk_42 (dk_at dksX3_puts_0 8 rfl rfl)
theorem dX3_puts_9 : decode cX3_puts 9 = .ok (.getfield 30, 3) := dk_180 0 30 (dk_at dksX3_puts_0 9 rfl rfl)
theorem dX3_puts_12 : decode cX3_puts 12 = .ok (.aload_n 0, 1) := dk_42 (dk_at dksX3_puts_0 12 rfl rfl)
theorem dX3_puts_13 : decode cX3_puts 13 = .ok (.getfield 182, 3) := dk_180 0 182 (dk_at dksX3_puts_0 13 rfl rfl)
theorem dX3_puts_16 : decode cX3_puts 16 = .ok (.dup2, 1) := dk_92 (dk_at dksX3_puts_0 16 rfl rfl)
theorem dX3_puts_17 : decode cX3_puts 17 = .ok (.iaload, 1) := dk_46 (dk_at dksX3_puts_0 17 rfl rfl)
theorem dX3_puts_18 : decode cX3_puts 18 = .ok (.iconst 1, 1) := dk_4 (dk_at dksX3_puts_0 18 rfl rfl)
theorem dX3_puts_19 : decode cX3_puts 19 = .ok (.iadd, 1) := dk_96 (dk_at dksX3_puts_0 19 rfl rfl)
theorem dX3_puts_20 : decode cX3_puts 20 = .ok (.iastore, 1) := dk_79 (dk_at dksX3_puts_0 20 rfl rfl)
theorem dX3_puts_21 : decode cX3_puts 21 = .ok (.aload_n 0, 1) := dk_42 (dk_at dksX3_puts_0 21 rfl rfl)
theorem dX3_puts_22 : decode cX3_puts 22 = .ok (.getfield 30, 3) := dk_180 0 30 (dk_at dksX3_puts_1 0 rfl rfl)
theorem dX3_puts_25 : decode cX3_puts 25 = .ok (.aload_n 0, 1) := dk_42 (dk_at dksX3_puts_1 3 rfl rfl)
theorem dX3_puts_26 : decode cX3_puts 26 = .ok (.getfield 182, 3) := dk_180 0 182 (dk_at dksX3_puts_1 4 rfl rfl)
theorem dX3_puts_29 : decode cX3_puts 29 = .ok (.aload_n 0, 1) := dk_42 (dk_at dksX3_puts_1 7 rfl rfl)
theorem dX3_puts_30 : decode cX3_puts 30 = .ok (.getfield 30, 3) := dk_180 0 30 (dk_at dksX3_puts_1 8 rfl rfl)
theorem dX3_puts_33 : decode cX3_puts 33 = .ok (.aload_n 0, 1) := dk_42 (dk_at dksX3_puts_1 11 rfl rfl)
theorem dX3_puts_34 : decode cX3_puts 34 = .ok (.getfield 182, 3) := dk_180 0 182 (dk_at dksX3_puts_1 12 rfl rfl)
theorem dX3_puts_37 : decode cX3_puts 37 = .ok (.iaload, 1) := dk_46 (dk_at dksX3_puts_1 15 rfl rfl)
theorem dX3_puts_38 : decode cX3_puts 38 = .ok (.iadd, 1) := dk_96 (dk_at dksX3_puts_1 16 rfl rfl)
theorem dX3_puts_39 : decode cX3_puts 39 = .ok (.iload_n 1, 1) := dk_27 (dk_at dksX3_puts_1 17 rfl rfl)
theorem dX3_puts_40 : decode cX3_puts 40 = .ok (.iastore, 1) := dk_79 (dk_at dksX3_puts_1 18 rfl rfl)
theorem dX3_puts_41 : decode cX3_puts 41 = .ok (.return_, 1) := dk_177 (dk_at dksX3_puts_1 19 rfl rfl)
abbrev cX3_opensBracket : ByteArray := prog_39_method_43_code
def yX3_opensBracket : MethodName := ⟨RX3, "opensBracket", "()V"⟩
def dkwX3_opensBracket_2 : List UInt8 := [182, 0, 129, 154, 0, 13, 42, 89, 180, 0, 123, 4, 96, 181, 0, 123, 177]
abbrev dktX3_opensBracket_2 : List UInt8 := dkwX3_opensBracket_2 ++ []
def dkwX3_opensBracket_1 : List UInt8 := [8, 162, 0, 7, 4, 167, 0, 4, 3, 7, 182, 0, 163, 42, 89, 180, 0, 195, 4, 96, 181, 0, 195, 42]
abbrev dktX3_opensBracket_1 : List UInt8 := dkwX3_opensBracket_1 ++ dktX3_opensBracket_2
def dkwX3_opensBracket_0 : List UInt8 := [42, 182, 0, 143, 42, 42, 16, 40, 16, 40, 182, 0, 133, 4, 182, 0, 163, 42, 42, 180, 0, 195, 4, 96]
abbrev dktX3_opensBracket_0 : List UInt8 := dkwX3_opensBracket_0 ++ dktX3_opensBracket_1
theorem dksX3_opensBracket_0 : cX3_opensBracket.data.toList.drop 0 = dktX3_opensBracket_0 := by decide +kernel
theorem dksX3_opensBracket_1 : cX3_opensBracket.data.toList.drop 24 = dktX3_opensBracket_1 := dk_seg dksX3_opensBracket_0 24 rfl rfl
theorem dksX3_opensBracket_2 : cX3_opensBracket.data.toList.drop 48 = dktX3_opensBracket_2 := dk_seg dksX3_opensBracket_1 24 rfl rfl
theorem dX3_opensBracket_0 : decode cX3_opensBracket 0 = .ok (.aload_n 0, 1) := dk_42 (dk_at dksX3_opensBracket_0 0 rfl rfl)
theorem dX3_opensBracket_1 : decode cX3_opensBracket 1 = .ok (.invokevirtual 143, 3) := dk_182 0 143 (dk_at dksX3_opensBracket_0 1 rfl rfl)
theorem dX3_opensBracket_4 : decode cX3_opensBracket 4 = .ok (.aload_n 0, 1) := dk_42 (dk_at dksX3_opensBracket_0 4 rfl rfl)
theorem dX3_opensBracket_5 : decode cX3_opensBracket 5 = .ok (.aload_n 0, 1) := dk_42 (dk_at dksX3_opensBracket_0 5 rfl rfl)
theorem dX3_opensBracket_6 : decode cX3_opensBracket 6 = .ok (.bipush 40, 2) := dk_16 40 (dk_at dksX3_opensBracket_0 6 rfl rfl)
theorem dX3_opensBracket_8 : decode cX3_opensBracket 8 = .ok (.bipush 40, 2) := dk_16 40 (dk_at dksX3_opensBracket_0 8 rfl rfl)
theorem dX3_opensBracket_10 : decode cX3_opensBracket 10 = .ok (.invokevirtual 133, 3) := dk_182 0 133 (dk_at dksX3_opensBracket_0 10 rfl rfl)
theorem dX3_opensBracket_13 : decode cX3_opensBracket 13 = .ok (.iconst 1, 1) := dk_4 (dk_at dksX3_opensBracket_0 13 rfl rfl)
theorem dX3_opensBracket_14 : decode cX3_opensBracket 14 = .ok (.invokevirtual 163, 3) := dk_182 0 163 (dk_at dksX3_opensBracket_0 14 rfl rfl)
theorem dX3_opensBracket_17 : decode cX3_opensBracket 17 = .ok (.aload_n 0, 1) := dk_42 (dk_at dksX3_opensBracket_0 17 rfl rfl)
theorem dX3_opensBracket_18 : decode cX3_opensBracket 18 = .ok (.aload_n 0, 1) := dk_42 (dk_at dksX3_opensBracket_0 18 rfl rfl)
theorem dX3_opensBracket_19 : decode cX3_opensBracket 19 = .ok (.getfield 195, 3) := dk_180 0 195 (dk_at dksX3_opensBracket_0 19 rfl rfl)
theorem dX3_opensBracket_22 : decode cX3_opensBracket 22 = .ok (.iconst 1, 1) := dk_4 (dk_at dksX3_opensBracket_0 22 rfl rfl)
theorem dX3_opensBracket_23 : decode cX3_opensBracket 23 = .ok (.iadd, 1) := dk_96 (dk_at dksX3_opensBracket_0 23 rfl rfl)
theorem dX3_opensBracket_24 : decode cX3_opensBracket 24 = .ok (.iconst 5, 1) := dk_8 (dk_at dksX3_opensBracket_1 0 rfl rfl)
theorem dX3_opensBracket_25 : decode cX3_opensBracket 25 = .ok (.if_icmp .ge 7, 3) := dk_162 0 7 (dk_at dksX3_opensBracket_1 1 rfl rfl)
theorem dX3_opensBracket_28 : decode cX3_opensBracket 28 = .ok (.iconst 1, 1) := dk_4 (dk_at dksX3_opensBracket_1 4 rfl rfl)
theorem dX3_opensBracket_29 : decode cX3_opensBracket 29 = .ok (.goto 4, 3) := dk_167 0 4 (dk_at dksX3_opensBracket_1 5 rfl rfl)
theorem dX3_opensBracket_32 : decode cX3_opensBracket 32 = .ok (.iconst 0, 1) := dk_3 (dk_at dksX3_opensBracket_1 8 rfl rfl)
theorem dX3_opensBracket_33 : decode cX3_opensBracket 33 = .ok (.iconst 4, 1) := dk_7 (dk_at dksX3_opensBracket_1 9 rfl rfl)
theorem dX3_opensBracket_34 : decode cX3_opensBracket 34 = .ok (.invokevirtual 163, 3) := dk_182 0 163 (dk_at dksX3_opensBracket_1 10 rfl rfl)
theorem dX3_opensBracket_37 : decode cX3_opensBracket 37 = .ok (.aload_n 0, 1) := dk_42 (dk_at dksX3_opensBracket_1 13 rfl rfl)
theorem dX3_opensBracket_38 : decode cX3_opensBracket 38 = .ok (.dup, 1) := dk_89 (dk_at dksX3_opensBracket_1 14 rfl rfl)
theorem dX3_opensBracket_39 : decode cX3_opensBracket 39 = .ok (.getfield 195, 3) := dk_180 0 195 (dk_at dksX3_opensBracket_1 15 rfl rfl)
theorem dX3_opensBracket_42 : decode cX3_opensBracket 42 = .ok (.iconst 1, 1) := dk_4 (dk_at dksX3_opensBracket_1 18 rfl rfl)
theorem dX3_opensBracket_43 : decode cX3_opensBracket 43 = .ok (.iadd, 1) := dk_96 (dk_at dksX3_opensBracket_1 19 rfl rfl)
theorem dX3_opensBracket_44 : decode cX3_opensBracket 44 = .ok (.putfield 195, 3) := dk_181 0 195 (dk_at dksX3_opensBracket_1 20 rfl rfl)
theorem dX3_opensBracket_47 : decode cX3_opensBracket 47 = .ok (.aload_n 0, 1) := dk_42 (dk_at dksX3_opensBracket_1 23 rfl rfl)
theorem dX3_opensBracket_48 : decode cX3_opensBracket 48 = .ok (.invokevirtual 129, 3) := dk_182 0 129 (dk_at dksX3_opensBracket_2 0 rfl rfl)
theorem dX3_opensBracket_51 : decode cX3_opensBracket 51 = .ok (.ifCond .ne 13, 3) := dk_154 0 13 (dk_at dksX3_opensBracket_2 3 rfl rfl)
theorem dX3_opensBracket_54 : decode cX3_opensBracket 54 = .ok (.aload_n 0, 1) := dk_42 (dk_at dksX3_opensBracket_2 6 rfl rfl)
theorem dX3_opensBracket_55 : decode cX3_opensBracket 55 = .ok (.dup, 1) := dk_89 (dk_at dksX3_opensBracket_2 7 rfl rfl)
theorem dX3_opensBracket_56 : decode cX3_opensBracket 56 = .ok (.getfield 123, 3) := dk_180 0 123 (dk_at dksX3_opensBracket_2 8 rfl rfl)
theorem dX3_opensBracket_59 : decode cX3_opensBracket 59 = .ok (.iconst 1, 1) := dk_4 (dk_at dksX3_opensBracket_2 11 rfl rfl)
theorem dX3_opensBracket_60 : decode cX3_opensBracket 60 = .ok (.iadd, 1) := dk_96 (dk_at dksX3_opensBracket_2 12 rfl rfl)
theorem dX3_opensBracket_61 : decode cX3_opensBracket 61 = .ok (.putfield 123, 3) := dk_181 0 123 (dk_at dksX3_opensBracket_2 13 rfl rfl)
theorem dX3_opensBracket_64 : decode cX3_opensBracket 64 = .ok (.return_, 1) := dk_177 (dk_at dksX3_opensBracket_2 16 rfl rfl)
abbrev cX3_closesBracket : ByteArray := prog_39_method_44_code
def yX3_closesBracket : MethodName := ⟨RX3, "closesBracket", "()V"⟩
def dkwX3_closesBracket_0 : List UInt8 := [42, 16, 41, 182, 0, 198, 42, 89, 180, 0, 195, 4, 100, 181, 0, 195, 177]
abbrev dktX3_closesBracket_0 : List UInt8 := dkwX3_closesBracket_0 ++ []
theorem dksX3_closesBracket_0 : cX3_closesBracket.data.toList.drop 0 = dktX3_closesBracket_0 := by decide +kernel
theorem dX3_closesBracket_0 : decode cX3_closesBracket 0 = .ok (.aload_n 0, 1) := dk_42 (dk_at dksX3_closesBracket_0 0 rfl rfl)
theorem dX3_closesBracket_1 : decode cX3_closesBracket 1 = .ok (.bipush 41, 2) := dk_16 41 (dk_at dksX3_closesBracket_0 1 rfl rfl)
theorem dX3_closesBracket_3 : decode cX3_closesBracket 3 = .ok (.invokevirtual 198, 3) := dk_182 0 198 (dk_at dksX3_closesBracket_0 3 rfl rfl)
theorem dX3_closesBracket_6 : decode cX3_closesBracket 6 = .ok (.aload_n 0, 1) := dk_42 (dk_at dksX3_closesBracket_0 6 rfl rfl)
theorem dX3_closesBracket_7 : decode cX3_closesBracket 7 = .ok (.dup, 1) := dk_89 (dk_at dksX3_closesBracket_0 7 rfl rfl)
theorem dX3_closesBracket_8 : decode cX3_closesBracket 8 = .ok (.getfield 195, 3) := dk_180 0 195 (dk_at dksX3_closesBracket_0 8 rfl rfl)
theorem dX3_closesBracket_11 : decode cX3_closesBracket 11 = .ok (.iconst 1, 1) := dk_4 (dk_at dksX3_closesBracket_0 11 rfl rfl)
theorem dX3_closesBracket_12 : decode cX3_closesBracket 12 = .ok (.isub, 1) := dk_100 (dk_at dksX3_closesBracket_0 12 rfl rfl)
theorem dX3_closesBracket_13 : decode cX3_closesBracket 13 = .ok (.putfield 195, 3) := dk_181 0 195 (dk_at dksX3_closesBracket_0 13 rfl rfl)
theorem dX3_closesBracket_16 : decode cX3_closesBracket 16 = .ok (.return_, 1) := dk_177 (dk_at dksX3_closesBracket_0 16 rfl rfl)
abbrev cX3_readPair : ByteArray := prog_39_method_45_code
def yX3_readPair : MethodName := ⟨RX3, "readPair", "(I)V"⟩
def dkwX3_readPair_1 : List UInt8 := [182, 0, 129, 153, 0, 4, 177, 42, 182, 0, 204, 42, 182, 0, 207, 42, 27, 182, 0, 188, 177]
abbrev dktX3_readPair_1 : List UInt8 := dkwX3_readPair_1 ++ []
def dkwX3_readPair_0 : List UInt8 := [42, 182, 0, 201, 42, 182, 0, 129, 153, 0, 4, 177, 42, 182, 0, 204, 42, 16, 44, 182, 0, 198, 42]
abbrev dktX3_readPair_0 : List UInt8 := dkwX3_readPair_0 ++ dktX3_readPair_1
theorem dksX3_readPair_0 : cX3_readPair.data.toList.drop 0 = dktX3_readPair_0 := by decide +kernel
theorem dksX3_readPair_1 : cX3_readPair.data.toList.drop 23 = dktX3_readPair_1 := dk_seg dksX3_readPair_0 23 rfl rfl
theorem dX3_readPair_0 : decode cX3_readPair 0 = .ok (.aload_n 0, 1) := dk_42 (dk_at dksX3_readPair_0 0 rfl rfl)
theorem dX3_readPair_1 : decode cX3_readPair 1 = .ok (.invokevirtual 201, 3) := dk_182 0 201 (dk_at dksX3_readPair_0 1 rfl rfl)
theorem dX3_readPair_4 : decode cX3_readPair 4 = .ok (.aload_n 0, 1) := dk_42 (dk_at dksX3_readPair_0 4 rfl rfl)
theorem dX3_readPair_5 : decode cX3_readPair 5 = .ok (.invokevirtual 129, 3) := dk_182 0 129 (dk_at dksX3_readPair_0 5 rfl rfl)
theorem dX3_readPair_8 : decode cX3_readPair 8 = .ok (.ifCond .eq 4, 3) := dk_153 0 4 (dk_at dksX3_readPair_0 8 rfl rfl)
theorem dX3_readPair_11 : decode cX3_readPair 11 = .ok (.return_, 1) := dk_177 (dk_at dksX3_readPair_0 11 rfl rfl)
theorem dX3_readPair_12 : decode cX3_readPair 12 = .ok (.aload_n 0, 1) := dk_42 (dk_at dksX3_readPair_0 12 rfl rfl)
theorem dX3_readPair_13 : decode cX3_readPair 13 = .ok (.invokevirtual 204, 3) := dk_182 0 204 (dk_at dksX3_readPair_0 13 rfl rfl)
theorem dX3_readPair_16 : decode cX3_readPair 16 = .ok (.aload_n 0, 1) := dk_42 (dk_at dksX3_readPair_0 16 rfl rfl)
theorem dX3_readPair_17 : decode cX3_readPair 17 = .ok (.bipush 44, 2) := dk_16 44 (dk_at dksX3_readPair_0 17 rfl rfl)
theorem dX3_readPair_19 : decode cX3_readPair 19 = .ok (.invokevirtual 198, 3) := dk_182 0 198 (dk_at dksX3_readPair_0 19 rfl rfl)
theorem dX3_readPair_22 : decode cX3_readPair 22 = .ok (.aload_n 0, 1) := dk_42 (dk_at dksX3_readPair_0 22 rfl rfl)
theorem dX3_readPair_23 : decode cX3_readPair 23 = .ok (.invokevirtual 129, 3) := dk_182 0 129 (dk_at dksX3_readPair_1 0 rfl rfl)
theorem dX3_readPair_26 : decode cX3_readPair 26 = .ok (.ifCond .eq 4, 3) := dk_153 0 4 (dk_at dksX3_readPair_1 3 rfl rfl)
theorem dX3_readPair_29 : decode cX3_readPair 29 = .ok (.return_, 1) := dk_177 (dk_at dksX3_readPair_1 6 rfl rfl)
theorem dX3_readPair_30 : decode cX3_readPair 30 = .ok (.aload_n 0, 1) := dk_42 (dk_at dksX3_readPair_1 7 rfl rfl)
theorem dX3_readPair_31 : decode cX3_readPair 31 = .ok (.invokevirtual 204, 3) := dk_182 0 204 (dk_at dksX3_readPair_1 8 rfl rfl)
theorem dX3_readPair_34 : decode cX3_readPair 34 = .ok (.aload_n 0, 1) := dk_42 (dk_at dksX3_readPair_1 11 rfl rfl)
theorem dX3_readPair_35 : decode cX3_readPair 35 = .ok (.invokevirtual 207, 3) := dk_182 0 207 (dk_at dksX3_readPair_1 12 rfl rfl)
theorem dX3_readPair_38 : decode cX3_readPair 38 = .ok (.aload_n 0, 1) := dk_42 (dk_at dksX3_readPair_1 15 rfl rfl)
theorem dX3_readPair_39 : decode cX3_readPair 39 = .ok (.iload_n 1, 1) := dk_27 (dk_at dksX3_readPair_1 16 rfl rfl)
theorem dX3_readPair_40 : decode cX3_readPair 40 = .ok (.invokevirtual 188, 3) := dk_182 0 188 (dk_at dksX3_readPair_1 17 rfl rfl)
theorem dX3_readPair_43 : decode cX3_readPair 43 = .ok (.return_, 1) := dk_177 (dk_at dksX3_readPair_1 20 rfl rfl)
abbrev cX3_in : ByteArray := prog_39_method_3_code
def yX3_in : MethodName := ⟨RX3, "in", "(JJJ)Z"⟩
def dkwX3_in_0 : List UInt8 := [30, 32, 148, 155, 0, 14, 30, 22, 4, 148, 157, 0, 7, 4, 167, 0, 4, 3, 172]
abbrev dktX3_in_0 : List UInt8 := dkwX3_in_0 ++ []
theorem dksX3_in_0 : cX3_in.data.toList.drop 0 = dktX3_in_0 := by decide +kernel
theorem dX3_in_0 : decode cX3_in 0 = .ok (.lload_n 0, 1) := dk_30 (dk_at dksX3_in_0 0 rfl rfl)
theorem dX3_in_1 : decode cX3_in 1 = .ok (.lload_n 2, 1) := dk_32 (dk_at dksX3_in_0 1 rfl rfl)
theorem dX3_in_2 : decode cX3_in 2 = .ok (.lcmp, 1) := dk_148 (dk_at dksX3_in_0 2 rfl rfl)
theorem dX3_in_3 : decode cX3_in 3 = .ok (.ifCond .lt 14, 3) := dk_155 0 14 (dk_at dksX3_in_0 3 rfl rfl)
theorem dX3_in_6 : decode cX3_in 6 = .ok (.lload_n 0, 1) := dk_30 (dk_at dksX3_in_0 6 rfl rfl)
theorem dX3_in_7 : decode cX3_in 7 = .ok (.lload 4, 2) := dk_22 4 (dk_at dksX3_in_0 7 rfl rfl)
theorem dX3_in_9 : decode cX3_in 9 = .ok (.lcmp, 1) := dk_148 (dk_at dksX3_in_0 9 rfl rfl)
theorem dX3_in_10 : decode cX3_in 10 = .ok (.ifCond .gt 7, 3) := dk_157 0 7 (dk_at dksX3_in_0 10 rfl rfl)
theorem dX3_in_13 : decode cX3_in 13 = .ok (.iconst 1, 1) := dk_4 (dk_at dksX3_in_0 13 rfl rfl)
theorem dX3_in_14 : decode cX3_in 14 = .ok (.goto 4, 3) := dk_167 0 4 (dk_at dksX3_in_0 14 rfl rfl)
theorem dX3_in_17 : decode cX3_in 17 = .ok (.iconst 0, 1) := dk_3 (dk_at dksX3_in_0 17 rfl rfl)
theorem dX3_in_18 : decode cX3_in 18 = .ok (.ireturn, 1) := dk_172 (dk_at dksX3_in_0 18 rfl rfl)
abbrev cX3_number : ByteArray := prog_39_method_35_code
def yX3_number : MethodName := ⟨RX3, "number", "(II)I"⟩
def dkwX3_number_5 : List UInt8 := [42, 182, 0, 129, 153, 0, 7, 27, 167, 0, 4, 29, 172]
abbrev dktX3_number_5 : List UInt8 := dkwX3_number_5 ++ []
def dkwX3_number_4 : List UInt8 := [163, 0, 19, 29, 133, 27, 133, 28, 133, 184, 0, 167, 153, 0, 7, 4, 167, 0, 4, 3, 5, 182, 0, 163]
abbrev dktX3_number_4 : List UInt8 := dkwX3_number_4 ++ dktX3_number_5
def dkwX3_number_3 : List UInt8 := [89, 180, 0, 123, 4, 96, 181, 0, 123, 167, 255, 203, 42, 42, 180, 0, 123, 42, 180, 0, 137, 100, 16, 6]
abbrev dktX3_number_3 : List UInt8 := dkwX3_number_3 ++ dktX3_number_4
def dkwX3_number_2 : List UInt8 := [16, 6, 162, 0, 21, 16, 10, 29, 104, 42, 180, 0, 37, 42, 180, 0, 123, 51, 96, 16, 48, 100, 62, 42]
abbrev dktX3_number_2 : List UInt8 := dkwX3_number_2 ++ dktX3_number_3
def dkwX3_number_1 : List UInt8 := [27, 172, 3, 62, 42, 16, 48, 16, 57, 182, 0, 133, 153, 0, 48, 42, 180, 0, 123, 42, 180, 0, 137, 100]
abbrev dktX3_number_1 : List UInt8 := dkwX3_number_1 ++ dktX3_number_2
def dkwX3_number_0 : List UInt8 := [42, 182, 0, 143, 42, 42, 16, 48, 16, 57, 182, 0, 133, 4, 182, 0, 163, 42, 182, 0, 129, 153, 0, 5]
abbrev dktX3_number_0 : List UInt8 := dkwX3_number_0 ++ dktX3_number_1
theorem dksX3_number_0 : cX3_number.data.toList.drop 0 = dktX3_number_0 := by decide +kernel
theorem dksX3_number_1 : cX3_number.data.toList.drop 24 = dktX3_number_1 := dk_seg dksX3_number_0 24 rfl rfl
theorem dksX3_number_2 : cX3_number.data.toList.drop 48 = dktX3_number_2 := dk_seg dksX3_number_1 24 rfl rfl
theorem dksX3_number_3 : cX3_number.data.toList.drop 72 = dktX3_number_3 := dk_seg dksX3_number_2 24 rfl rfl
theorem dksX3_number_4 : cX3_number.data.toList.drop 96 = dktX3_number_4 := dk_seg dksX3_number_3 24 rfl rfl
theorem dksX3_number_5 : cX3_number.data.toList.drop 120 = dktX3_number_5 := dk_seg dksX3_number_4 24 rfl rfl
theorem dX3_number_0 : decode cX3_number 0 = .ok (.aload_n 0, 1) := dk_42 (dk_at dksX3_number_0 0 rfl rfl)
theorem dX3_number_1 : decode cX3_number 1 = .ok (.invokevirtual 143, 3) := dk_182 0 143 (dk_at dksX3_number_0 1 rfl rfl)
theorem dX3_number_4 : decode cX3_number 4 = .ok (.aload_n 0, 1) := dk_42 (dk_at dksX3_number_0 4 rfl rfl)
theorem dX3_number_5 : decode cX3_number 5 = .ok (.aload_n 0, 1) := dk_42 (dk_at dksX3_number_0 5 rfl rfl)
theorem dX3_number_6 : decode cX3_number 6 = .ok (.bipush 48, 2) := dk_16 48 (dk_at dksX3_number_0 6 rfl rfl)
theorem dX3_number_8 : decode cX3_number 8 = .ok (.bipush 57, 2) := dk_16 57 (dk_at dksX3_number_0 8 rfl rfl)
theorem dX3_number_10 : decode cX3_number 10 = .ok (.invokevirtual 133, 3) := dk_182 0 133 (dk_at dksX3_number_0 10 rfl rfl)
theorem dX3_number_13 : decode cX3_number 13 = .ok (.iconst 1, 1) := dk_4 (dk_at dksX3_number_0 13 rfl rfl)
theorem dX3_number_14 : decode cX3_number 14 = .ok (.invokevirtual 163, 3) := dk_182 0 163 (dk_at dksX3_number_0 14 rfl rfl)
theorem dX3_number_17 : decode cX3_number 17 = .ok (.aload_n 0, 1) := dk_42 (dk_at dksX3_number_0 17 rfl rfl)
theorem dX3_number_18 : decode cX3_number 18 = .ok (.invokevirtual 129, 3) := dk_182 0 129 (dk_at dksX3_number_0 18 rfl rfl)
theorem dX3_number_21 : decode cX3_number 21 = .ok (.ifCond .eq 5, 3) := dk_153 0 5 (dk_at dksX3_number_0 21 rfl rfl)
theorem dX3_number_24 : decode cX3_number 24 = .ok (.iload_n 1, 1) := dk_27 (dk_at dksX3_number_1 0 rfl rfl)
theorem dX3_number_25 : decode cX3_number 25 = .ok (.ireturn, 1) := dk_172 (dk_at dksX3_number_1 1 rfl rfl)
theorem dX3_number_26 : decode cX3_number 26 = .ok (.iconst 0, 1) := dk_3 (dk_at dksX3_number_1 2 rfl rfl)
theorem dX3_number_27 : decode cX3_number 27 = .ok (.istore_n 3, 1) := dk_62 (dk_at dksX3_number_1 3 rfl rfl)
theorem dX3_number_28 : decode cX3_number 28 = .ok (.aload_n 0, 1) := dk_42 (dk_at dksX3_number_1 4 rfl rfl)
theorem dX3_number_29 : decode cX3_number 29 = .ok (.bipush 48, 2) := dk_16 48 (dk_at dksX3_number_1 5 rfl rfl)
theorem dX3_number_31 : decode cX3_number 31 = .ok (.bipush 57, 2) := dk_16 57 (dk_at dksX3_number_1 7 rfl rfl)
theorem dX3_number_33 : decode cX3_number 33 = .ok (.invokevirtual 133, 3) := dk_182 0 133 (dk_at dksX3_number_1 9 rfl rfl)
theorem dX3_number_36 : decode cX3_number 36 = .ok (.ifCond .eq 48, 3) := dk_153 0 48 (dk_at dksX3_number_1 12 rfl rfl)
theorem dX3_number_39 : decode cX3_number 39 = .ok (.aload_n 0, 1) := dk_42 (dk_at dksX3_number_1 15 rfl rfl)
theorem dX3_number_40 : decode cX3_number 40 = .ok (.getfield 123, 3) := dk_180 0 123 (dk_at dksX3_number_1 16 rfl rfl)
theorem dX3_number_43 : decode cX3_number 43 = .ok (.aload_n 0, 1) := dk_42 (dk_at dksX3_number_1 19 rfl rfl)
theorem dX3_number_44 : decode cX3_number 44 = .ok (.getfield 137, 3) := dk_180 0 137 (dk_at dksX3_number_1 20 rfl rfl)
theorem dX3_number_47 : decode cX3_number 47 = .ok (.isub, 1) := dk_100 (dk_at dksX3_number_1 23 rfl rfl)
theorem dX3_number_48 : decode cX3_number 48 = .ok (.bipush 6, 2) := dk_16 6 (dk_at dksX3_number_2 0 rfl rfl)
theorem dX3_number_50 : decode cX3_number 50 = .ok (.if_icmp .ge 21, 3) := dk_162 0 21 (dk_at dksX3_number_2 2 rfl rfl)
theorem dX3_number_53 : decode cX3_number 53 = .ok (.bipush 10, 2) := dk_16 10 (dk_at dksX3_number_2 5 rfl rfl)
theorem dX3_number_55 : decode cX3_number 55 = .ok (.iload_n 3, 1) := dk_29 (dk_at dksX3_number_2 7 rfl rfl)
theorem dX3_number_56 : decode cX3_number 56 = .ok (.imul, 1) := dk_104 (dk_at dksX3_number_2 8 rfl rfl)
theorem dX3_number_57 : decode cX3_number 57 = .ok (.aload_n 0, 1) := dk_42 (dk_at dksX3_number_2 9 rfl rfl)
theorem dX3_number_58 : decode cX3_number 58 = .ok (.getfield 37, 3) := dk_180 0 37 (dk_at dksX3_number_2 10 rfl rfl)
theorem dX3_number_61 : decode cX3_number 61 = .ok (.aload_n 0, 1) := dk_42 (dk_at dksX3_number_2 13 rfl rfl)
theorem dX3_number_62 : decode cX3_number 62 = .ok (.getfield 123, 3) := dk_180 0 123 (dk_at dksX3_number_2 14 rfl rfl)
theorem dX3_number_65 : decode cX3_number 65 = .ok (.baload, 1) := dk_51 (dk_at dksX3_number_2 17 rfl rfl)
theorem dX3_number_66 : decode cX3_number 66 = .ok (.iadd, 1) := dk_96 (dk_at dksX3_number_2 18 rfl rfl)
theorem dX3_number_67 : decode cX3_number 67 = .ok (.bipush 48, 2) := dk_16 48 (dk_at dksX3_number_2 19 rfl rfl)
theorem dX3_number_69 : decode cX3_number 69 = .ok (.isub, 1) := dk_100 (dk_at dksX3_number_2 21 rfl rfl)
theorem dX3_number_70 : decode cX3_number 70 = .ok (.istore_n 3, 1) := dk_62 (dk_at dksX3_number_2 22 rfl rfl)
theorem dX3_number_71 : decode cX3_number 71 = .ok (.aload_n 0, 1) := dk_42 (dk_at dksX3_number_2 23 rfl rfl)
theorem dX3_number_72 : decode cX3_number 72 = .ok (.dup, 1) := dk_89 (dk_at dksX3_number_3 0 rfl rfl)
theorem dX3_number_73 : decode cX3_number 73 = .ok (.getfield 123, 3) := dk_180 0 123 (dk_at dksX3_number_3 1 rfl rfl)
theorem dX3_number_76 : decode cX3_number 76 = .ok (.iconst 1, 1) := dk_4 (dk_at dksX3_number_3 4 rfl rfl)
theorem dX3_number_77 : decode cX3_number 77 = .ok (.iadd, 1) := dk_96 (dk_at dksX3_number_3 5 rfl rfl)
theorem dX3_number_78 : decode cX3_number 78 = .ok (.putfield 123, 3) := dk_181 0 123 (dk_at dksX3_number_3 6 rfl rfl)
theorem dX3_number_81 : decode cX3_number 81 = .ok (.goto (-53), 3) := dk_167 255 203 (dk_at dksX3_number_3 9 rfl rfl)
theorem dX3_number_84 : decode cX3_number 84 = .ok (.aload_n 0, 1) := dk_42 (dk_at dksX3_number_3 12 rfl rfl)
theorem dX3_number_85 : decode cX3_number 85 = .ok (.aload_n 0, 1) := dk_42 (dk_at dksX3_number_3 13 rfl rfl)
theorem dX3_number_86 : decode cX3_number 86 = .ok (.getfield 123, 3) := dk_180 0 123 (dk_at dksX3_number_3 14 rfl rfl)
theorem dX3_number_89 : decode cX3_number 89 = .ok (.aload_n 0, 1) := dk_42 (dk_at dksX3_number_3 17 rfl rfl)
theorem dX3_number_90 : decode cX3_number 90 = .ok (.getfield 137, 3) := dk_180 0 137 (dk_at dksX3_number_3 18 rfl rfl)
theorem dX3_number_93 : decode cX3_number 93 = .ok (.isub, 1) := dk_100 (dk_at dksX3_number_3 21 rfl rfl)
theorem dX3_number_94 : decode cX3_number 94 = .ok (.bipush 6, 2) := dk_16 6 (dk_at dksX3_number_3 22 rfl rfl)
theorem dX3_number_96 : decode cX3_number 96 = .ok (.if_icmp .gt 19, 3) := dk_163 0 19 (dk_at dksX3_number_4 0 rfl rfl)
theorem dX3_number_99 : decode cX3_number 99 = .ok (.iload_n 3, 1) := dk_29 (dk_at dksX3_number_4 3 rfl rfl)
theorem dX3_number_100 : decode cX3_number 100 = .ok (.i2l, 1) := dk_133 (dk_at dksX3_number_4 4 rfl rfl)
theorem dX3_number_101 : decode cX3_number 101 = .ok (.iload_n 1, 1) := dk_27 (dk_at dksX3_number_4 5 rfl rfl)
theorem dX3_number_102 : decode cX3_number 102 = .ok (.i2l, 1) := dk_133 (dk_at dksX3_number_4 6 rfl rfl)
theorem dX3_number_103 : decode cX3_number 103 = .ok (.iload_n 2, 1) := dk_28 (dk_at dksX3_number_4 7 rfl rfl)
theorem dX3_number_104 : decode cX3_number 104 = .ok (.i2l, 1) := dk_133 (dk_at dksX3_number_4 8 rfl rfl)
theorem dX3_number_105 : decode cX3_number 105 = .ok (.invokestatic 167, 3) := dk_184 0 167 (dk_at dksX3_number_4 9 rfl rfl)
theorem dX3_number_108 : decode cX3_number 108 = .ok (.ifCond .eq 7, 3) := dk_153 0 7 (dk_at dksX3_number_4 12 rfl rfl)
theorem dX3_number_111 : decode cX3_number 111 = .ok (.iconst 1, 1) := dk_4 (dk_at dksX3_number_4 15 rfl rfl)
theorem dX3_number_112 : decode cX3_number 112 = .ok (.goto 4, 3) := dk_167 0 4 (dk_at dksX3_number_4 16 rfl rfl)
theorem dX3_number_115 : decode cX3_number 115 = .ok (.iconst 0, 1) := dk_3 (dk_at dksX3_number_4 19 rfl rfl)
theorem dX3_number_116 : decode cX3_number 116 = .ok (.iconst 2, 1) := dk_5 (dk_at dksX3_number_4 20 rfl rfl)
theorem dX3_number_117 : decode cX3_number 117 = .ok (.invokevirtual 163, 3) := dk_182 0 163 (dk_at dksX3_number_4 21 rfl rfl)
theorem dX3_number_120 : decode cX3_number 120 = .ok (.aload_n 0, 1) := dk_42 (dk_at dksX3_number_5 0 rfl rfl)
theorem dX3_number_121 : decode cX3_number 121 = .ok (.invokevirtual 129, 3) := dk_182 0 129 (dk_at dksX3_number_5 1 rfl rfl)
theorem dX3_number_124 : decode cX3_number 124 = .ok (.ifCond .eq 7, 3) := dk_153 0 7 (dk_at dksX3_number_5 4 rfl rfl)
theorem dX3_number_127 : decode cX3_number 127 = .ok (.iload_n 1, 1) := dk_27 (dk_at dksX3_number_5 7 rfl rfl)
theorem dX3_number_128 : decode cX3_number 128 = .ok (.goto 4, 3) := dk_167 0 4 (dk_at dksX3_number_5 8 rfl rfl)
theorem dX3_number_131 : decode cX3_number 131 = .ok (.iload_n 3, 1) := dk_29 (dk_at dksX3_number_5 11 rfl rfl)
theorem dX3_number_132 : decode cX3_number 132 = .ok (.ireturn, 1) := dk_172 (dk_at dksX3_number_5 12 rfl rfl)
abbrev cX3_readFactor : ByteArray := prog_39_method_46_code
def yX3_readFactor : MethodName := ⟨RX3, "readFactor", "()V"⟩
def dkwX3_readFactor_8 : List UInt8 := [182, 0, 188, 177]
abbrev dktX3_readFactor_8 : List UInt8 := dkwX3_readFactor_8 ++ []
def dkwX3_readFactor_7 : List UInt8 := [167, 0, 4, 2, 60, 42, 27, 2, 159, 0, 7, 4, 167, 0, 4, 3, 4, 182, 0, 163, 42, 27]
abbrev dktX3_readFactor_7 : List UInt8 := dkwX3_readFactor_7 ++ dktX3_readFactor_8
def dkwX3_readFactor_6 : List UInt8 := [18, 224, 182, 0, 212, 153, 0, 7, 6, 167, 0, 17, 42, 18, 226, 182, 0, 212, 153, 0, 7, 7]
abbrev dktX3_readFactor_6 : List UInt8 := dkwX3_readFactor_6 ++ dktX3_readFactor_7
def dkwX3_readFactor_5 : List UInt8 := [182, 0, 212, 153, 0, 7, 4, 167, 0, 43, 42, 18, 222, 182, 0, 212, 153, 0, 7, 5, 167, 0, 30, 42]
abbrev dktX3_readFactor_5 : List UInt8 := dkwX3_readFactor_5 ++ dktX3_readFactor_6
def dkwX3_readFactor_4 : List UInt8 := [167, 0, 95, 42, 18, 219, 182, 0, 212, 153, 0, 12, 42, 16, 10, 182, 0, 216, 167, 0, 77, 42, 18, 220]
abbrev dktX3_readFactor_4 : List UInt8 := dkwX3_readFactor_4 ++ dktX3_readFactor_5
def dkwX3_readFactor_3 : List UInt8 := [42, 182, 0, 207, 167, 0, 113, 42, 18, 211, 182, 0, 212, 153, 0, 12, 42, 16, 9, 182, 0, 216]
abbrev dktX3_readFactor_3 : List UInt8 := dkwX3_readFactor_3 ++ dktX3_readFactor_4
def dkwX3_readFactor_2 : List UInt8 := [16, 40, 182, 0, 133, 153, 0, 26, 42, 182, 0, 201, 42, 182, 0, 129, 153, 0, 4, 177, 42, 182, 0, 204]
abbrev dktX3_readFactor_2 : List UInt8 := dkwX3_readFactor_2 ++ dktX3_readFactor_3
def dkwX3_readFactor_1 : List UInt8 := [3, 18, 210, 182, 0, 179, 60, 42, 3, 182, 0, 188, 42, 27, 182, 0, 188, 167, 0, 147, 42, 16, 40]
abbrev dktX3_readFactor_1 : List UInt8 := dkwX3_readFactor_1 ++ dktX3_readFactor_2
def dkwX3_readFactor_0 : List UInt8 := [42, 182, 0, 143, 42, 182, 0, 129, 153, 0, 4, 177, 42, 16, 48, 16, 57, 182, 0, 133, 153, 0, 24, 42]
abbrev dktX3_readFactor_0 : List UInt8 := dkwX3_readFactor_0 ++ dktX3_readFactor_1
theorem dksX3_readFactor_0 : cX3_readFactor.data.toList.drop 0 = dktX3_readFactor_0 := by decide +kernel
theorem dksX3_readFactor_1 : cX3_readFactor.data.toList.drop 24 = dktX3_readFactor_1 := dk_seg dksX3_readFactor_0 24 rfl rfl
theorem dksX3_readFactor_2 : cX3_readFactor.data.toList.drop 47 = dktX3_readFactor_2 := dk_seg dksX3_readFactor_1 23 rfl rfl
theorem dksX3_readFactor_3 : cX3_readFactor.data.toList.drop 71 = dktX3_readFactor_3 := dk_seg dksX3_readFactor_2 24 rfl rfl
theorem dksX3_readFactor_4 : cX3_readFactor.data.toList.drop 93 = dktX3_readFactor_4 := dk_seg dksX3_readFactor_3 22 rfl rfl
theorem dksX3_readFactor_5 : cX3_readFactor.data.toList.drop 117 = dktX3_readFactor_5 := dk_seg dksX3_readFactor_4 24 rfl rfl
theorem dksX3_readFactor_6 : cX3_readFactor.data.toList.drop 141 = dktX3_readFactor_6 := dk_seg dksX3_readFactor_5 24 rfl rfl
theorem dksX3_readFactor_7 : cX3_readFactor.data.toList.drop 163 = dktX3_readFactor_7 := dk_seg dksX3_readFactor_6 22 rfl rfl
theorem dksX3_readFactor_8 : cX3_readFactor.data.toList.drop 185 = dktX3_readFactor_8 := dk_seg dksX3_readFactor_7 22 rfl rfl
theorem dX3_readFactor_0 : decode cX3_readFactor 0 = .ok (.aload_n 0, 1) := dk_42 (dk_at dksX3_readFactor_0 0 rfl rfl)
theorem dX3_readFactor_1 : decode cX3_readFactor 1 = .ok (.invokevirtual 143, 3) := dk_182 0 143 (dk_at dksX3_readFactor_0 1 rfl rfl)
theorem dX3_readFactor_4 : decode cX3_readFactor 4 = .ok (.aload_n 0, 1) := dk_42 (dk_at dksX3_readFactor_0 4 rfl rfl)
theorem dX3_readFactor_5 : decode cX3_readFactor 5 = .ok (.invokevirtual 129, 3) := dk_182 0 129 (dk_at dksX3_readFactor_0 5 rfl rfl)
theorem dX3_readFactor_8 : decode cX3_readFactor 8 = .ok (.ifCond .eq 4, 3) := dk_153 0 4 (dk_at dksX3_readFactor_0 8 rfl rfl)
theorem dX3_readFactor_11 : decode cX3_readFactor 11 = .ok (.return_, 1) := dk_177 (dk_at dksX3_readFactor_0 11 rfl rfl)
theorem dX3_readFactor_12 : decode cX3_readFactor 12 = .ok (.aload_n 0, 1) := dk_42 (dk_at dksX3_readFactor_0 12 rfl rfl)
theorem dX3_readFactor_13 : decode cX3_readFactor 13 = .ok (.bipush 48, 2) := dk_16 48 (dk_at dksX3_readFactor_0 13 rfl rfl)
theorem dX3_readFactor_15 : decode cX3_readFactor 15 = .ok (.bipush 57, 2) := dk_16 57 (dk_at dksX3_readFactor_0 15 rfl rfl)
theorem dX3_readFactor_17 : decode cX3_readFactor 17 = .ok (.invokevirtual 133, 3) := dk_182 0 133 (dk_at dksX3_readFactor_0 17 rfl rfl)
theorem dX3_readFactor_20 : decode cX3_readFactor 20 = .ok (.ifCond .eq 24, 3) := dk_153 0 24 (dk_at dksX3_readFactor_0 20 rfl rfl)
theorem dX3_readFactor_23 : decode cX3_readFactor 23 = .ok (.aload_n 0, 1) := dk_42 (dk_at dksX3_readFactor_0 23 rfl rfl)
theorem dX3_readFactor_24 : decode cX3_readFactor 24 = .ok (.iconst 0, 1) := dk_3 (dk_at dksX3_readFactor_1 0 rfl rfl)
theorem dX3_readFactor_25 : decode cX3_readFactor 25 = .ok (.ldc 210, 2) := dk_18 210 (dk_at dksX3_readFactor_1 1 rfl rfl)
theorem dX3_readFactor_27 : decode cX3_readFactor 27 = .ok (.invokevirtual 179, 3) := dk_182 0 179 (dk_at dksX3_readFactor_1 3 rfl rfl)
theorem dX3_readFactor_30 : decode cX3_readFactor 30 = .ok (.istore_n 1, 1) := dk_60 (dk_at dksX3_readFactor_1 6 rfl rfl)
theorem dX3_readFactor_31 : decode cX3_readFactor 31 = .ok (.aload_n 0, 1) := dk_42 (dk_at dksX3_readFactor_1 7 rfl rfl)
theorem dX3_readFactor_32 : decode cX3_readFactor 32 = .ok (.iconst 0, 1) := dk_3 (dk_at dksX3_readFactor_1 8 rfl rfl)
theorem dX3_readFactor_33 : decode cX3_readFactor 33 = .ok (.invokevirtual 188, 3) := dk_182 0 188 (dk_at dksX3_readFactor_1 9 rfl rfl)
theorem dX3_readFactor_36 : decode cX3_readFactor 36 = .ok (.aload_n 0, 1) := dk_42 (dk_at dksX3_readFactor_1 12 rfl rfl)
theorem dX3_readFactor_37 : decode cX3_readFactor 37 = .ok (.iload_n 1, 1) := dk_27 (dk_at dksX3_readFactor_1 13 rfl rfl)
theorem dX3_readFactor_38 : decode cX3_readFactor 38 = .ok (.invokevirtual 188, 3) := dk_182 0 188 (dk_at dksX3_readFactor_1 14 rfl rfl)
theorem dX3_readFactor_41 : decode cX3_readFactor 41 = .ok (.goto 147, 3) := dk_167 0 147 (dk_at dksX3_readFactor_1 17 rfl rfl)
theorem dX3_readFactor_44 : decode cX3_readFactor 44 = .ok (.aload_n 0, 1) := dk_42 (dk_at dksX3_readFactor_1 20 rfl rfl)
theorem dX3_readFactor_45 : decode cX3_readFactor 45 = .ok (.bipush 40, 2) := dk_16 40 (dk_at dksX3_readFactor_1 21 rfl rfl)
theorem dX3_readFactor_47 : decode cX3_readFactor 47 = .ok (.bipush 40, 2) := dk_16 40 (dk_at dksX3_readFactor_2 0 rfl rfl)
theorem dX3_readFactor_49 : decode cX3_readFactor 49 = .ok (.invokevirtual 133, 3) := dk_182 0 133 (dk_at dksX3_readFactor_2 2 rfl rfl)
theorem dX3_readFactor_52 : decode cX3_readFactor 52 = .ok (.ifCond .eq 26, 3) := dk_153 0 26 (dk_at dksX3_readFactor_2 5 rfl rfl)
theorem dX3_readFactor_55 : decode cX3_readFactor 55 = .ok (.aload_n 0, 1) := dk_42 (dk_at dksX3_readFactor_2 8 rfl rfl)
theorem dX3_readFactor_56 : decode cX3_readFactor 56 = .ok (.invokevirtual 201, 3) := dk_182 0 201 (dk_at dksX3_readFactor_2 9 rfl rfl)
theorem dX3_readFactor_59 : decode cX3_readFactor 59 = .ok (.aload_n 0, 1) := dk_42 (dk_at dksX3_readFactor_2 12 rfl rfl)
theorem dX3_readFactor_60 : decode cX3_readFactor 60 = .ok (.invokevirtual 129, 3) := dk_182 0 129 (dk_at dksX3_readFactor_2 13 rfl rfl)
theorem dX3_readFactor_63 : decode cX3_readFactor 63 = .ok (.ifCond .eq 4, 3) := dk_153 0 4 (dk_at dksX3_readFactor_2 16 rfl rfl)
theorem dX3_readFactor_66 : decode cX3_readFactor 66 = .ok (.return_, 1) := dk_177 (dk_at dksX3_readFactor_2 19 rfl rfl)
theorem dX3_readFactor_67 : decode cX3_readFactor 67 = .ok (.aload_n 0, 1) := dk_42 (dk_at dksX3_readFactor_2 20 rfl rfl)
theorem dX3_readFactor_68 : decode cX3_readFactor 68 = .ok (.invokevirtual 204, 3) := dk_182 0 204 (dk_at dksX3_readFactor_2 21 rfl rfl)
theorem dX3_readFactor_71 : decode cX3_readFactor 71 = .ok (.aload_n 0, 1) := dk_42 (dk_at dksX3_readFactor_3 0 rfl rfl)
theorem dX3_readFactor_72 : decode cX3_readFactor 72 = .ok (.invokevirtual 207, 3) := dk_182 0 207 (dk_at dksX3_readFactor_3 1 rfl rfl)
theorem dX3_readFactor_75 : decode cX3_readFactor 75 = .ok (.goto 113, 3) := dk_167 0 113 (dk_at dksX3_readFactor_3 4 rfl rfl)
theorem dX3_readFactor_78 : decode cX3_readFactor 78 = .ok (.aload_n 0, 1) := dk_42 (dk_at dksX3_readFactor_3 7 rfl rfl)
theorem dX3_readFactor_79 : decode cX3_readFactor 79 = .ok (.ldc 211, 2) := dk_18 211 (dk_at dksX3_readFactor_3 8 rfl rfl)
theorem dX3_readFactor_81 : decode cX3_readFactor 81 = .ok (.invokevirtual 212, 3) := dk_182 0 212 (dk_at dksX3_readFactor_3 10 rfl rfl)
theorem dX3_readFactor_84 : decode cX3_readFactor 84 = .ok (.ifCond .eq 12, 3) := dk_153 0 12 (dk_at dksX3_readFactor_3 13 rfl rfl)
theorem dX3_readFactor_87 : decode cX3_readFactor 87 = .ok (.aload_n 0, 1) := dk_42 (dk_at dksX3_readFactor_3 16 rfl rfl)
theorem dX3_readFactor_88 : decode cX3_readFactor 88 = .ok (.bipush 9, 2) := dk_16 9 (dk_at dksX3_readFactor_3 17 rfl rfl)
theorem dX3_readFactor_90 : decode cX3_readFactor 90 = .ok (.invokevirtual 216, 3) := dk_182 0 216 (dk_at dksX3_readFactor_3 19 rfl rfl)
theorem dX3_readFactor_93 : decode cX3_readFactor 93 = .ok (.goto 95, 3) := dk_167 0 95 (dk_at dksX3_readFactor_4 0 rfl rfl)
theorem dX3_readFactor_96 : decode cX3_readFactor 96 = .ok (.aload_n 0, 1) := dk_42 (dk_at dksX3_readFactor_4 3 rfl rfl)
theorem dX3_readFactor_97 : decode cX3_readFactor 97 = .ok (.ldc 219, 2) := dk_18 219 (dk_at dksX3_readFactor_4 4 rfl rfl)
theorem dX3_readFactor_99 : decode cX3_readFactor 99 = .ok (.invokevirtual 212, 3) := dk_182 0 212 (dk_at dksX3_readFactor_4 6 rfl rfl)
theorem dX3_readFactor_102 : decode cX3_readFactor 102 = .ok (.ifCond .eq 12, 3) := dk_153 0 12 (dk_at dksX3_readFactor_4 9 rfl rfl)
theorem dX3_readFactor_105 : decode cX3_readFactor 105 = .ok (.aload_n 0, 1) := dk_42 (dk_at dksX3_readFactor_4 12 rfl rfl)
theorem dX3_readFactor_106 : decode cX3_readFactor 106 = .ok (.bipush 10, 2) := dk_16 10 (dk_at dksX3_readFactor_4 13 rfl rfl)
theorem dX3_readFactor_108 : decode cX3_readFactor 108 = .ok (.invokevirtual 216, 3) := dk_182 0 216 (dk_at dksX3_readFactor_4 15 rfl rfl)
theorem dX3_readFactor_111 : decode cX3_readFactor 111 = .ok (.goto 77, 3) := dk_167 0 77 (dk_at dksX3_readFactor_4 18 rfl rfl)
theorem dX3_readFactor_114 : decode cX3_readFactor 114 = .ok (.aload_n 0, 1) := dk_42 (dk_at dksX3_readFactor_4 21 rfl rfl)
theorem dX3_readFactor_115 : decode cX3_readFactor 115 = .ok (.ldc 220, 2) := dk_18 220 (dk_at dksX3_readFactor_4 22 rfl rfl)
theorem dX3_readFactor_117 : decode cX3_readFactor 117 = .ok (.invokevirtual 212, 3) := dk_182 0 212 (dk_at dksX3_readFactor_5 0 rfl rfl)
theorem dX3_readFactor_120 : decode cX3_readFactor 120 = .ok (.ifCond .eq 7, 3) := dk_153 0 7 (dk_at dksX3_readFactor_5 3 rfl rfl)
theorem dX3_readFactor_123 : decode cX3_readFactor 123 = .ok (.iconst 1, 1) := dk_4 (dk_at dksX3_readFactor_5 6 rfl rfl)
theorem dX3_readFactor_124 : decode cX3_readFactor 124 = .ok (.goto 43, 3) := dk_167 0 43 (dk_at dksX3_readFactor_5 7 rfl rfl)
theorem dX3_readFactor_127 : decode cX3_readFactor 127 = .ok (.aload_n 0, 1) := dk_42 (dk_at dksX3_readFactor_5 10 rfl rfl)
theorem dX3_readFactor_128 : decode cX3_readFactor 128 = .ok (.ldc 222, 2) := dk_18 222 (dk_at dksX3_readFactor_5 11 rfl rfl)
theorem dX3_readFactor_130 : decode cX3_readFactor 130 = .ok (.invokevirtual 212, 3) := dk_182 0 212 (dk_at dksX3_readFactor_5 13 rfl rfl)
theorem dX3_readFactor_133 : decode cX3_readFactor 133 = .ok (.ifCond .eq 7, 3) := dk_153 0 7 (dk_at dksX3_readFactor_5 16 rfl rfl)
theorem dX3_readFactor_136 : decode cX3_readFactor 136 = .ok (.iconst 2, 1) := dk_5 (dk_at dksX3_readFactor_5 19 rfl rfl)
theorem dX3_readFactor_137 : decode cX3_readFactor 137 = .ok (.goto 30, 3) := dk_167 0 30 (dk_at dksX3_readFactor_5 20 rfl rfl)
theorem dX3_readFactor_140 : decode cX3_readFactor 140 = .ok (.aload_n 0, 1) := dk_42 (dk_at dksX3_readFactor_5 23 rfl rfl)
theorem dX3_readFactor_141 : decode cX3_readFactor 141 = .ok (.ldc 224, 2) := dk_18 224 (dk_at dksX3_readFactor_6 0 rfl rfl)
theorem dX3_readFactor_143 : decode cX3_readFactor 143 = .ok (.invokevirtual 212, 3) := dk_182 0 212 (dk_at dksX3_readFactor_6 2 rfl rfl)
theorem dX3_readFactor_146 : decode cX3_readFactor 146 = .ok (.ifCond .eq 7, 3) := dk_153 0 7 (dk_at dksX3_readFactor_6 5 rfl rfl)
theorem dX3_readFactor_149 : decode cX3_readFactor 149 = .ok (.iconst 3, 1) := dk_6 (dk_at dksX3_readFactor_6 8 rfl rfl)
theorem dX3_readFactor_150 : decode cX3_readFactor 150 = .ok (.goto 17, 3) := dk_167 0 17 (dk_at dksX3_readFactor_6 9 rfl rfl)
theorem dX3_readFactor_153 : decode cX3_readFactor 153 = .ok (.aload_n 0, 1) := dk_42 (dk_at dksX3_readFactor_6 12 rfl rfl)
theorem dX3_readFactor_154 : decode cX3_readFactor 154 = .ok (.ldc 226, 2) := dk_18 226 (dk_at dksX3_readFactor_6 13 rfl rfl)
theorem dX3_readFactor_156 : decode cX3_readFactor 156 = .ok (.invokevirtual 212, 3) := dk_182 0 212 (dk_at dksX3_readFactor_6 15 rfl rfl)
theorem dX3_readFactor_159 : decode cX3_readFactor 159 = .ok (.ifCond .eq 7, 3) := dk_153 0 7 (dk_at dksX3_readFactor_6 18 rfl rfl)
theorem dX3_readFactor_162 : decode cX3_readFactor 162 = .ok (.iconst 4, 1) := dk_7 (dk_at dksX3_readFactor_6 21 rfl rfl)
theorem dX3_readFactor_163 : decode cX3_readFactor 163 = .ok (.goto 4, 3) := dk_167 0 4 (dk_at dksX3_readFactor_7 0 rfl rfl)
theorem dX3_readFactor_166 : decode cX3_readFactor 166 = .ok (.iconst (-1), 1) := dk_2 (dk_at dksX3_readFactor_7 3 rfl rfl)
theorem dX3_readFactor_167 : decode cX3_readFactor 167 = .ok (.istore_n 1, 1) := dk_60 (dk_at dksX3_readFactor_7 4 rfl rfl)
theorem dX3_readFactor_168 : decode cX3_readFactor 168 = .ok (.aload_n 0, 1) := dk_42 (dk_at dksX3_readFactor_7 5 rfl rfl)
theorem dX3_readFactor_169 : decode cX3_readFactor 169 = .ok (.iload_n 1, 1) := dk_27 (dk_at dksX3_readFactor_7 6 rfl rfl)
theorem dX3_readFactor_170 : decode cX3_readFactor 170 = .ok (.iconst (-1), 1) := dk_2 (dk_at dksX3_readFactor_7 7 rfl rfl)
theorem dX3_readFactor_171 : decode cX3_readFactor 171 = .ok (.if_icmp .eq 7, 3) := dk_159 0 7 (dk_at dksX3_readFactor_7 8 rfl rfl)
theorem dX3_readFactor_174 : decode cX3_readFactor 174 = .ok (.iconst 1, 1) := dk_4 (dk_at dksX3_readFactor_7 11 rfl rfl)
theorem dX3_readFactor_175 : decode cX3_readFactor 175 = .ok (.goto 4, 3) := dk_167 0 4 (dk_at dksX3_readFactor_7 12 rfl rfl)
theorem dX3_readFactor_178 : decode cX3_readFactor 178 = .ok (.iconst 0, 1) := dk_3 (dk_at dksX3_readFactor_7 15 rfl rfl)
theorem dX3_readFactor_179 : decode cX3_readFactor 179 = .ok (.iconst 1, 1) := dk_4 (dk_at dksX3_readFactor_7 16 rfl rfl)
theorem dX3_readFactor_180 : decode cX3_readFactor 180 = .ok (.invokevirtual 163, 3) := dk_182 0 163 (dk_at dksX3_readFactor_7 17 rfl rfl)
theorem dX3_readFactor_183 : decode cX3_readFactor 183 = .ok (.aload_n 0, 1) := dk_42 (dk_at dksX3_readFactor_7 20 rfl rfl)
theorem dX3_readFactor_184 : decode cX3_readFactor 184 = .ok (.iload_n 1, 1) := dk_27 (dk_at dksX3_readFactor_7 21 rfl rfl)
theorem dX3_readFactor_185 : decode cX3_readFactor 185 = .ok (.invokevirtual 188, 3) := dk_182 0 188 (dk_at dksX3_readFactor_8 0 rfl rfl)
theorem dX3_readFactor_188 : decode cX3_readFactor 188 = .ok (.return_, 1) := dk_177 (dk_at dksX3_readFactor_8 3 rfl rfl)
abbrev cX3_readTerm : ByteArray := prog_39_method_42_code
def yX3_readTerm : MethodName := ⟨RX3, "readTerm", "()V"⟩
def dkwX3_readTerm_3 : List UInt8 := [27, 153, 0, 8, 42, 28, 182, 0, 188, 167, 255, 194, 177]
abbrev dktX3_readTerm_3 : List UInt8 := dkwX3_readTerm_3 ++ []
def dkwX3_readTerm_2 : List UInt8 := [167, 0, 4, 2, 61, 28, 2, 159, 0, 7, 4, 167, 0, 4, 3, 60, 27, 153, 0, 7, 42, 182, 0, 192]
abbrev dktX3_readTerm_2 : List UInt8 := dkwX3_readTerm_2 ++ dktX3_readTerm_3
def dkwX3_readTerm_1 : List UInt8 := [182, 0, 159, 153, 0, 8, 16, 7, 167, 0, 18, 42, 16, 47, 182, 0, 159, 153, 0, 8, 16, 8]
abbrev dktX3_readTerm_1 : List UInt8 := dkwX3_readTerm_1 ++ dktX3_readTerm_2
def dkwX3_readTerm_0 : List UInt8 := [42, 182, 0, 192, 42, 182, 0, 129, 154, 0, 7, 4, 167, 0, 4, 3, 60, 27, 153, 0, 64, 42, 16, 42]
abbrev dktX3_readTerm_0 : List UInt8 := dkwX3_readTerm_0 ++ dktX3_readTerm_1
theorem dksX3_readTerm_0 : cX3_readTerm.data.toList.drop 0 = dktX3_readTerm_0 := by decide +kernel
theorem dksX3_readTerm_1 : cX3_readTerm.data.toList.drop 24 = dktX3_readTerm_1 := dk_seg dksX3_readTerm_0 24 rfl rfl
theorem dksX3_readTerm_2 : cX3_readTerm.data.toList.drop 46 = dktX3_readTerm_2 := dk_seg dksX3_readTerm_1 22 rfl rfl
theorem dksX3_readTerm_3 : cX3_readTerm.data.toList.drop 70 = dktX3_readTerm_3 := dk_seg dksX3_readTerm_2 24 rfl rfl
theorem dX3_readTerm_0 : decode cX3_readTerm 0 = .ok (.aload_n 0, 1) := dk_42 (dk_at dksX3_readTerm_0 0 rfl rfl)
theorem dX3_readTerm_1 : decode cX3_readTerm 1 = .ok (.invokevirtual 192, 3) := dk_182 0 192 (dk_at dksX3_readTerm_0 1 rfl rfl)
theorem dX3_readTerm_4 : decode cX3_readTerm 4 = .ok (.aload_n 0, 1) := dk_42 (dk_at dksX3_readTerm_0 4 rfl rfl)
theorem dX3_readTerm_5 : decode cX3_readTerm 5 = .ok (.invokevirtual 129, 3) := dk_182 0 129 (dk_at dksX3_readTerm_0 5 rfl rfl)
theorem dX3_readTerm_8 : decode cX3_readTerm 8 = .ok (.ifCond .ne 7, 3) := dk_154 0 7 (dk_at dksX3_readTerm_0 8 rfl rfl)
theorem dX3_readTerm_11 : decode cX3_readTerm 11 = .ok (.iconst 1, 1) := dk_4 (dk_at dksX3_readTerm_0 11 rfl rfl)
theorem dX3_readTerm_12 : decode cX3_readTerm 12 = .ok (.goto 4, 3) := dk_167 0 4 (dk_at dksX3_readTerm_0 12 rfl rfl)
theorem dX3_readTerm_15 : decode cX3_readTerm 15 = .ok (.iconst 0, 1) := dk_3 (dk_at dksX3_readTerm_0 15 rfl rfl)
theorem dX3_readTerm_16 : decode cX3_readTerm 16 = .ok (.istore_n 1, 1) := dk_60 (dk_at dksX3_readTerm_0 16 rfl rfl)
theorem dX3_readTerm_17 : decode cX3_readTerm 17 = .ok (.iload_n 1, 1) := dk_27 (dk_at dksX3_readTerm_0 17 rfl rfl)
theorem dX3_readTerm_18 : decode cX3_readTerm 18 = .ok (.ifCond .eq 64, 3) := dk_153 0 64 (dk_at dksX3_readTerm_0 18 rfl rfl)
theorem dX3_readTerm_21 : decode cX3_readTerm 21 = .ok (.aload_n 0, 1) := dk_42 (dk_at dksX3_readTerm_0 21 rfl rfl)
theorem dX3_readTerm_22 : decode cX3_readTerm 22 = .ok (.bipush 42, 2) := dk_16 42 (dk_at dksX3_readTerm_0 22 rfl rfl)
theorem dX3_readTerm_24 : decode cX3_readTerm 24 = .ok (.invokevirtual 159, 3) := dk_182 0 159 (dk_at dksX3_readTerm_1 0 rfl rfl)
theorem dX3_readTerm_27 : decode cX3_readTerm 27 = .ok (.ifCond .eq 8, 3) := dk_153 0 8 (dk_at dksX3_readTerm_1 3 rfl rfl)
theorem dX3_readTerm_30 : decode cX3_readTerm 30 = .ok (.bipush 7, 2) := dk_16 7 (dk_at dksX3_readTerm_1 6 rfl rfl)
theorem dX3_readTerm_32 : decode cX3_readTerm 32 = .ok (.goto 18, 3) := dk_167 0 18 (dk_at dksX3_readTerm_1 8 rfl rfl)
theorem dX3_readTerm_35 : decode cX3_readTerm 35 = .ok (.aload_n 0, 1) := dk_42 (dk_at dksX3_readTerm_1 11 rfl rfl)
theorem dX3_readTerm_36 : decode cX3_readTerm 36 = .ok (.bipush 47, 2) := dk_16 47 (dk_at dksX3_readTerm_1 12 rfl rfl)
theorem dX3_readTerm_38 : decode cX3_readTerm 38 = .ok (.invokevirtual 159, 3) := dk_182 0 159 (dk_at dksX3_readTerm_1 14 rfl rfl)
theorem dX3_readTerm_41 : decode cX3_readTerm 41 = .ok (.ifCond .eq 8, 3) := dk_153 0 8 (dk_at dksX3_readTerm_1 17 rfl rfl)
theorem dX3_readTerm_44 : decode cX3_readTerm 44 = .ok (.bipush 8, 2) := dk_16 8 (dk_at dksX3_readTerm_1 20 rfl rfl)
theorem dX3_readTerm_46 : decode cX3_readTerm 46 = .ok (.goto 4, 3) := dk_167 0 4 (dk_at dksX3_readTerm_2 0 rfl rfl)
theorem dX3_readTerm_49 : decode cX3_readTerm 49 = .ok (.iconst (-1), 1) := dk_2 (dk_at dksX3_readTerm_2 3 rfl rfl)
theorem dX3_readTerm_50 : decode cX3_readTerm 50 = .ok (.istore_n 2, 1) := dk_61 (dk_at dksX3_readTerm_2 4 rfl rfl)
theorem dX3_readTerm_51 : decode cX3_readTerm 51 = .ok (.iload_n 2, 1) := dk_28 (dk_at dksX3_readTerm_2 5 rfl rfl)
theorem dX3_readTerm_52 : decode cX3_readTerm 52 = .ok (.iconst (-1), 1) := dk_2 (dk_at dksX3_readTerm_2 6 rfl rfl)
theorem dX3_readTerm_53 : decode cX3_readTerm 53 = .ok (.if_icmp .eq 7, 3) := dk_159 0 7 (dk_at dksX3_readTerm_2 7 rfl rfl)
theorem dX3_readTerm_56 : decode cX3_readTerm 56 = .ok (.iconst 1, 1) := dk_4 (dk_at dksX3_readTerm_2 10 rfl rfl)
theorem dX3_readTerm_57 : decode cX3_readTerm 57 = .ok (.goto 4, 3) := dk_167 0 4 (dk_at dksX3_readTerm_2 11 rfl rfl)
theorem dX3_readTerm_60 : decode cX3_readTerm 60 = .ok (.iconst 0, 1) := dk_3 (dk_at dksX3_readTerm_2 14 rfl rfl)
theorem dX3_readTerm_61 : decode cX3_readTerm 61 = .ok (.istore_n 1, 1) := dk_60 (dk_at dksX3_readTerm_2 15 rfl rfl)
theorem dX3_readTerm_62 : decode cX3_readTerm 62 = .ok (.iload_n 1, 1) := dk_27 (dk_at dksX3_readTerm_2 16 rfl rfl)
theorem dX3_readTerm_63 : decode cX3_readTerm 63 = .ok (.ifCond .eq 7, 3) := dk_153 0 7 (dk_at dksX3_readTerm_2 17 rfl rfl)
theorem dX3_readTerm_66 : decode cX3_readTerm 66 = .ok (.aload_n 0, 1) := dk_42 (dk_at dksX3_readTerm_2 20 rfl rfl)
theorem dX3_readTerm_67 : decode cX3_readTerm 67 = .ok (.invokevirtual 192, 3) := dk_182 0 192 (dk_at dksX3_readTerm_2 21 rfl rfl)
theorem dX3_readTerm_70 : decode cX3_readTerm 70 = .ok (.iload_n 1, 1) := dk_27 (dk_at dksX3_readTerm_3 0 rfl rfl)
theorem dX3_readTerm_71 : decode cX3_readTerm 71 = .ok (.ifCond .eq 8, 3) := dk_153 0 8 (dk_at dksX3_readTerm_3 1 rfl rfl)
theorem dX3_readTerm_74 : decode cX3_readTerm 74 = .ok (.aload_n 0, 1) := dk_42 (dk_at dksX3_readTerm_3 4 rfl rfl)
theorem dX3_readTerm_75 : decode cX3_readTerm 75 = .ok (.iload_n 2, 1) := dk_28 (dk_at dksX3_readTerm_3 5 rfl rfl)
theorem dX3_readTerm_76 : decode cX3_readTerm 76 = .ok (.invokevirtual 188, 3) := dk_182 0 188 (dk_at dksX3_readTerm_3 6 rfl rfl)
theorem dX3_readTerm_79 : decode cX3_readTerm 79 = .ok (.goto (-62), 3) := dk_167 255 194 (dk_at dksX3_readTerm_3 9 rfl rfl)
theorem dX3_readTerm_82 : decode cX3_readTerm 82 = .ok (.return_, 1) := dk_177 (dk_at dksX3_readTerm_3 12 rfl rfl)
abbrev cX3_readSum : ByteArray := prog_39_method_41_code
def yX3_readSum : MethodName := ⟨RX3, "readSum", "()V"⟩
def dkwX3_readSum_3 : List UInt8 := [153, 0, 8, 42, 28, 182, 0, 188, 167, 255, 195, 177]
abbrev dktX3_readSum_3 : List UInt8 := dkwX3_readSum_3 ++ []
def dkwX3_readSum_2 : List UInt8 := [2, 61, 28, 2, 159, 0, 7, 4, 167, 0, 4, 3, 60, 27, 153, 0, 7, 42, 182, 0, 185, 27]
abbrev dktX3_readSum_2 : List UInt8 := dkwX3_readSum_2 ++ dktX3_readSum_3
def dkwX3_readSum_1 : List UInt8 := [182, 0, 159, 153, 0, 7, 8, 167, 0, 18, 42, 16, 45, 182, 0, 159, 153, 0, 8, 16, 6, 167, 0, 4]
abbrev dktX3_readSum_1 : List UInt8 := dkwX3_readSum_1 ++ dktX3_readSum_2
def dkwX3_readSum_0 : List UInt8 := [42, 182, 0, 185, 42, 182, 0, 129, 154, 0, 7, 4, 167, 0, 4, 3, 60, 27, 153, 0, 63, 42, 16, 43]
abbrev dktX3_readSum_0 : List UInt8 := dkwX3_readSum_0 ++ dktX3_readSum_1
theorem dksX3_readSum_0 : cX3_readSum.data.toList.drop 0 = dktX3_readSum_0 := by decide +kernel
theorem dksX3_readSum_1 : cX3_readSum.data.toList.drop 24 = dktX3_readSum_1 := dk_seg dksX3_readSum_0 24 rfl rfl
theorem dksX3_readSum_2 : cX3_readSum.data.toList.drop 48 = dktX3_readSum_2 := dk_seg dksX3_readSum_1 24 rfl rfl
theorem dksX3_readSum_3 : cX3_readSum.data.toList.drop 70 = dktX3_readSum_3 := dk_seg dksX3_readSum_2 22 rfl rfl
theorem dX3_readSum_0 : decode cX3_readSum 0 = .ok (.aload_n 0, 1) := dk_42 (dk_at dksX3_readSum_0 0 rfl rfl)
theorem dX3_readSum_1 : decode cX3_readSum 1 = .ok (.invokevirtual 185, 3) := dk_182 0 185 (dk_at dksX3_readSum_0 1 rfl rfl)
theorem dX3_readSum_4 : decode cX3_readSum 4 = .ok (.aload_n 0, 1) := dk_42 (dk_at dksX3_readSum_0 4 rfl rfl)
theorem dX3_readSum_5 : decode cX3_readSum 5 = .ok (.invokevirtual 129, 3) := dk_182 0 129 (dk_at dksX3_readSum_0 5 rfl rfl)
theorem dX3_readSum_8 : decode cX3_readSum 8 = .ok (.ifCond .ne 7, 3) := dk_154 0 7 (dk_at dksX3_readSum_0 8 rfl rfl)
theorem dX3_readSum_11 : decode cX3_readSum 11 = .ok (.iconst 1, 1) := dk_4 (dk_at dksX3_readSum_0 11 rfl rfl)
theorem dX3_readSum_12 : decode cX3_readSum 12 = .ok (.goto 4, 3) := dk_167 0 4 (dk_at dksX3_readSum_0 12 rfl rfl)
theorem dX3_readSum_15 : decode cX3_readSum 15 = .ok (.iconst 0, 1) := dk_3 (dk_at dksX3_readSum_0 15 rfl rfl)
theorem dX3_readSum_16 : decode cX3_readSum 16 = .ok (.istore_n 1, 1) := dk_60 (dk_at dksX3_readSum_0 16 rfl rfl)
theorem dX3_readSum_17 : decode cX3_readSum 17 = .ok (.iload_n 1, 1) := dk_27 (dk_at dksX3_readSum_0 17 rfl rfl)
theorem dX3_readSum_18 : decode cX3_readSum 18 = .ok (.ifCond .eq 63, 3) := dk_153 0 63 (dk_at dksX3_readSum_0 18 rfl rfl)
theorem dX3_readSum_21 : decode cX3_readSum 21 = .ok (.aload_n 0, 1) := dk_42 (dk_at dksX3_readSum_0 21 rfl rfl)
theorem dX3_readSum_22 : decode cX3_readSum 22 = .ok (.bipush 43, 2) := dk_16 43 (dk_at dksX3_readSum_0 22 rfl rfl)
theorem dX3_readSum_24 : decode cX3_readSum 24 = .ok (.invokevirtual 159, 3) := dk_182 0 159 (dk_at dksX3_readSum_1 0 rfl rfl)
theorem dX3_readSum_27 : decode cX3_readSum 27 = .ok (.ifCond .eq 7, 3) := dk_153 0 7 (dk_at dksX3_readSum_1 3 rfl rfl)
theorem dX3_readSum_30 : decode cX3_readSum 30 = .ok (.iconst 5, 1) := dk_8 (dk_at dksX3_readSum_1 6 rfl rfl)
theorem dX3_readSum_31 : decode cX3_readSum 31 = .ok (.goto 18, 3) := dk_167 0 18 (dk_at dksX3_readSum_1 7 rfl rfl)
theorem dX3_readSum_34 : decode cX3_readSum 34 = .ok (.aload_n 0, 1) := dk_42 (dk_at dksX3_readSum_1 10 rfl rfl)
theorem dX3_readSum_35 : decode cX3_readSum 35 = .ok (.bipush 45, 2) := dk_16 45 (dk_at dksX3_readSum_1 11 rfl rfl)
theorem dX3_readSum_37 : decode cX3_readSum 37 = .ok (.invokevirtual 159, 3) := dk_182 0 159 (dk_at dksX3_readSum_1 13 rfl rfl)
theorem dX3_readSum_40 : decode cX3_readSum 40 = .ok (.ifCond .eq 8, 3) := dk_153 0 8 (dk_at dksX3_readSum_1 16 rfl rfl)
theorem dX3_readSum_43 : decode cX3_readSum 43 = .ok (.bipush 6, 2) := dk_16 6 (dk_at dksX3_readSum_1 19 rfl rfl)
theorem dX3_readSum_45 : decode cX3_readSum 45 = .ok (.goto 4, 3) := dk_167 0 4 (dk_at dksX3_readSum_1 21 rfl rfl)
theorem dX3_readSum_48 : decode cX3_readSum 48 = .ok (.iconst (-1), 1) := dk_2 (dk_at dksX3_readSum_2 0 rfl rfl)
theorem dX3_readSum_49 : decode cX3_readSum 49 = .ok (.istore_n 2, 1) := dk_61 (dk_at dksX3_readSum_2 1 rfl rfl)
theorem dX3_readSum_50 : decode cX3_readSum 50 = .ok (.iload_n 2, 1) := dk_28 (dk_at dksX3_readSum_2 2 rfl rfl)
theorem dX3_readSum_51 : decode cX3_readSum 51 = .ok (.iconst (-1), 1) := dk_2 (dk_at dksX3_readSum_2 3 rfl rfl)
theorem dX3_readSum_52 : decode cX3_readSum 52 = .ok (.if_icmp .eq 7, 3) := dk_159 0 7 (dk_at dksX3_readSum_2 4 rfl rfl)
theorem dX3_readSum_55 : decode cX3_readSum 55 = .ok (.iconst 1, 1) := dk_4 (dk_at dksX3_readSum_2 7 rfl rfl)
theorem dX3_readSum_56 : decode cX3_readSum 56 = .ok (.goto 4, 3) := dk_167 0 4 (dk_at dksX3_readSum_2 8 rfl rfl)
theorem dX3_readSum_59 : decode cX3_readSum 59 = .ok (.iconst 0, 1) := dk_3 (dk_at dksX3_readSum_2 11 rfl rfl)
theorem dX3_readSum_60 : decode cX3_readSum 60 = .ok (.istore_n 1, 1) := dk_60 (dk_at dksX3_readSum_2 12 rfl rfl)
theorem dX3_readSum_61 : decode cX3_readSum 61 = .ok (.iload_n 1, 1) := dk_27 (dk_at dksX3_readSum_2 13 rfl rfl)
theorem dX3_readSum_62 : decode cX3_readSum 62 = .ok (.ifCond .eq 7, 3) := dk_153 0 7 (dk_at dksX3_readSum_2 14 rfl rfl)
theorem dX3_readSum_65 : decode cX3_readSum 65 = .ok (.aload_n 0, 1) := dk_42 (dk_at dksX3_readSum_2 17 rfl rfl)
theorem dX3_readSum_66 : decode cX3_readSum 66 = .ok (.invokevirtual 185, 3) := dk_182 0 185 (dk_at dksX3_readSum_2 18 rfl rfl)
theorem dX3_readSum_69 : decode cX3_readSum 69 = .ok (.iload_n 1, 1) := dk_27 (dk_at dksX3_readSum_2 21 rfl rfl)
theorem dX3_readSum_70 : decode cX3_readSum 70 = .ok (.ifCond .eq 8, 3) := dk_153 0 8 (dk_at dksX3_readSum_3 0 rfl rfl)
theorem dX3_readSum_73 : decode cX3_readSum 73 = .ok (.aload_n 0, 1) := dk_42 (dk_at dksX3_readSum_3 3 rfl rfl)
theorem dX3_readSum_74 : decode cX3_readSum 74 = .ok (.iload_n 2, 1) := dk_28 (dk_at dksX3_readSum_3 4 rfl rfl)
theorem dX3_readSum_75 : decode cX3_readSum 75 = .ok (.invokevirtual 188, 3) := dk_182 0 188 (dk_at dksX3_readSum_3 5 rfl rfl)
theorem dX3_readSum_78 : decode cX3_readSum 78 = .ok (.goto (-61), 3) := dk_167 255 195 (dk_at dksX3_readSum_3 8 rfl rfl)
theorem dX3_readSum_81 : decode cX3_readSum 81 = .ok (.return_, 1) := dk_177 (dk_at dksX3_readSum_3 11 rfl rfl)
abbrev cX3_readAllow : ByteArray := prog_39_method_47_code
def yX3_readAllow : MethodName := ⟨RX3, "readAllow", "(I)V"⟩
def dkwX3_readAllow_1 : List UInt8 := [42, 182, 0, 204, 177]
abbrev dktX3_readAllow_1 : List UInt8 := dkwX3_readAllow_1 ++ []
def dkwX3_readAllow_0 : List UInt8 := [42, 17, 5, 121, 27, 104, 181, 0, 182, 42, 180, 0, 30, 42, 180, 0, 182, 3, 79, 42, 3, 181, 0, 195]
abbrev dktX3_readAllow_0 : List UInt8 := dkwX3_readAllow_0 ++ dktX3_readAllow_1
theorem dksX3_readAllow_0 : cX3_readAllow.data.toList.drop 0 = dktX3_readAllow_0 := by decide +kernel
theorem dksX3_readAllow_1 : cX3_readAllow.data.toList.drop 24 = dktX3_readAllow_1 := dk_seg dksX3_readAllow_0 24 rfl rfl
theorem dX3_readAllow_0 : decode cX3_readAllow 0 = .ok (.aload_n 0, 1) := dk_42 (dk_at dksX3_readAllow_0 0 rfl rfl)
theorem dX3_readAllow_1 : decode cX3_readAllow 1 = .ok (.sipush 1401, 3) := dk_17 5 121 (dk_at dksX3_readAllow_0 1 rfl rfl)
theorem dX3_readAllow_4 : decode cX3_readAllow 4 = .ok (.iload_n 1, 1) := dk_27 (dk_at dksX3_readAllow_0 4 rfl rfl)
theorem dX3_readAllow_5 : decode cX3_readAllow 5 = .ok (.imul, 1) := dk_104 (dk_at dksX3_readAllow_0 5 rfl rfl)
theorem dX3_readAllow_6 : decode cX3_readAllow 6 = .ok (.putfield 182, 3) := dk_181 0 182 (dk_at dksX3_readAllow_0 6 rfl rfl)
theorem dX3_readAllow_9 : decode cX3_readAllow 9 = .ok (.aload_n 0, 1) := dk_42 (dk_at dksX3_readAllow_0 9 rfl rfl)
theorem dX3_readAllow_10 : decode cX3_readAllow 10 = .ok (.getfield 30, 3) := dk_180 0 30 (dk_at dksX3_readAllow_0 10 rfl rfl)
theorem dX3_readAllow_13 : decode cX3_readAllow 13 = .ok (.aload_n 0, 1) := dk_42 (dk_at dksX3_readAllow_0 13 rfl rfl)
theorem dX3_readAllow_14 : decode cX3_readAllow 14 = .ok (.getfield 182, 3) := dk_180 0 182 (dk_at dksX3_readAllow_0 14 rfl rfl)
theorem dX3_readAllow_17 : decode cX3_readAllow 17 = .ok (.iconst 0, 1) := dk_3 (dk_at dksX3_readAllow_0 17 rfl rfl)
theorem dX3_readAllow_18 : decode cX3_readAllow 18 = .ok (.iastore, 1) := dk_79 (dk_at dksX3_readAllow_0 18 rfl rfl)
theorem dX3_readAllow_19 : decode cX3_readAllow 19 = .ok (.aload_n 0, 1) := dk_42 (dk_at dksX3_readAllow_0 19 rfl rfl)
theorem dX3_readAllow_20 : decode cX3_readAllow 20 = .ok (.iconst 0, 1) := dk_3 (dk_at dksX3_readAllow_0 20 rfl rfl)
theorem dX3_readAllow_21 : decode cX3_readAllow 21 = .ok (.putfield 195, 3) := dk_181 0 195 (dk_at dksX3_readAllow_0 21 rfl rfl)
theorem dX3_readAllow_24 : decode cX3_readAllow 24 = .ok (.aload_n 0, 1) := dk_42 (dk_at dksX3_readAllow_1 0 rfl rfl)
theorem dX3_readAllow_25 : decode cX3_readAllow 25 = .ok (.invokevirtual 204, 3) := dk_182 0 204 (dk_at dksX3_readAllow_1 1 rfl rfl)
theorem dX3_readAllow_28 : decode cX3_readAllow 28 = .ok (.return_, 1) := dk_177 (dk_at dksX3_readAllow_1 4 rfl rfl)
abbrev cX3_readRow : ByteArray := prog_39_method_39_code
def yX3_readRow : MethodName := ⟨RX3, "readRow", "(III)V"⟩
def dkwX3_readRow_3 : List UInt8 := [132, 4, 1, 42, 182, 0, 143, 42, 16, 48, 16, 57, 182, 0, 133, 154, 255, 175, 177]
abbrev dktX3_readRow_3 : List UInt8 := dkwX3_readRow_3 ++ []
def dkwX3_readRow_2 : List UInt8 := [182, 0, 129, 153, 0, 4, 177, 42, 180, 0, 13, 27, 28, 21, 4, 96, 184, 0, 63, 21, 5, 79]
abbrev dktX3_readRow_2 : List UInt8 := dkwX3_readRow_2 ++ dktX3_readRow_3
def dkwX3_readRow_1 : List UInt8 := [182, 0, 70, 163, 0, 7, 4, 167, 0, 4, 3, 8, 182, 0, 163, 42, 3, 29, 182, 0, 179, 54, 5, 42]
abbrev dktX3_readRow_1 : List UInt8 := dkwX3_readRow_1 ++ dktX3_readRow_2
def dkwX3_readRow_0 : List UInt8 := [3, 54, 4, 42, 182, 0, 143, 42, 42, 16, 48, 16, 57, 182, 0, 133, 153, 0, 13, 21, 4, 42, 27]
abbrev dktX3_readRow_0 : List UInt8 := dkwX3_readRow_0 ++ dktX3_readRow_1
theorem dksX3_readRow_0 : cX3_readRow.data.toList.drop 0 = dktX3_readRow_0 := by decide +kernel
theorem dksX3_readRow_1 : cX3_readRow.data.toList.drop 23 = dktX3_readRow_1 := dk_seg dksX3_readRow_0 23 rfl rfl
theorem dksX3_readRow_2 : cX3_readRow.data.toList.drop 47 = dktX3_readRow_2 := dk_seg dksX3_readRow_1 24 rfl rfl
theorem dksX3_readRow_3 : cX3_readRow.data.toList.drop 69 = dktX3_readRow_3 := dk_seg dksX3_readRow_2 22 rfl rfl
theorem dX3_readRow_0 : decode cX3_readRow 0 = .ok (.iconst 0, 1) := dk_3 (dk_at dksX3_readRow_0 0 rfl rfl)
theorem dX3_readRow_1 : decode cX3_readRow 1 = .ok (.istore 4, 2) := dk_54 4 (dk_at dksX3_readRow_0 1 rfl rfl)
theorem dX3_readRow_3 : decode cX3_readRow 3 = .ok (.aload_n 0, 1) := dk_42 (dk_at dksX3_readRow_0 3 rfl rfl)
theorem dX3_readRow_4 : decode cX3_readRow 4 = .ok (.invokevirtual 143, 3) := dk_182 0 143 (dk_at dksX3_readRow_0 4 rfl rfl)
theorem dX3_readRow_7 : decode cX3_readRow 7 = .ok (.aload_n 0, 1) := dk_42 (dk_at dksX3_readRow_0 7 rfl rfl)
theorem dX3_readRow_8 : decode cX3_readRow 8 = .ok (.aload_n 0, 1) := dk_42 (dk_at dksX3_readRow_0 8 rfl rfl)
theorem dX3_readRow_9 : decode cX3_readRow 9 = .ok (.bipush 48, 2) := dk_16 48 (dk_at dksX3_readRow_0 9 rfl rfl)
theorem dX3_readRow_11 : decode cX3_readRow 11 = .ok (.bipush 57, 2) := dk_16 57 (dk_at dksX3_readRow_0 11 rfl rfl)
theorem dX3_readRow_13 : decode cX3_readRow 13 = .ok (.invokevirtual 133, 3) := dk_182 0 133 (dk_at dksX3_readRow_0 13 rfl rfl)
theorem dX3_readRow_16 : decode cX3_readRow 16 = .ok (.ifCond .eq 13, 3) := dk_153 0 13 (dk_at dksX3_readRow_0 16 rfl rfl)
theorem dX3_readRow_19 : decode cX3_readRow 19 = .ok (.iload 4, 2) := dk_21 4 (dk_at dksX3_readRow_0 19 rfl rfl)
theorem dX3_readRow_21 : decode cX3_readRow 21 = .ok (.aload_n 0, 1) := dk_42 (dk_at dksX3_readRow_0 21 rfl rfl)
theorem dX3_readRow_22 : decode cX3_readRow 22 = .ok (.iload_n 1, 1) := dk_27 (dk_at dksX3_readRow_0 22 rfl rfl)
theorem dX3_readRow_23 : decode cX3_readRow 23 = .ok (.invokevirtual 70, 3) := dk_182 0 70 (dk_at dksX3_readRow_1 0 rfl rfl)
theorem dX3_readRow_26 : decode cX3_readRow 26 = .ok (.if_icmp .gt 7, 3) := dk_163 0 7 (dk_at dksX3_readRow_1 3 rfl rfl)
theorem dX3_readRow_29 : decode cX3_readRow 29 = .ok (.iconst 1, 1) := dk_4 (dk_at dksX3_readRow_1 6 rfl rfl)
theorem dX3_readRow_30 : decode cX3_readRow 30 = .ok (.goto 4, 3) := dk_167 0 4 (dk_at dksX3_readRow_1 7 rfl rfl)
theorem dX3_readRow_33 : decode cX3_readRow 33 = .ok (.iconst 0, 1) := dk_3 (dk_at dksX3_readRow_1 10 rfl rfl)
theorem dX3_readRow_34 : decode cX3_readRow 34 = .ok (.iconst 5, 1) := dk_8 (dk_at dksX3_readRow_1 11 rfl rfl)
theorem dX3_readRow_35 : decode cX3_readRow 35 = .ok (.invokevirtual 163, 3) := dk_182 0 163 (dk_at dksX3_readRow_1 12 rfl rfl)
theorem dX3_readRow_38 : decode cX3_readRow 38 = .ok (.aload_n 0, 1) := dk_42 (dk_at dksX3_readRow_1 15 rfl rfl)
theorem dX3_readRow_39 : decode cX3_readRow 39 = .ok (.iconst 0, 1) := dk_3 (dk_at dksX3_readRow_1 16 rfl rfl)
theorem dX3_readRow_40 : decode cX3_readRow 40 = .ok (.iload_n 3, 1) := dk_29 (dk_at dksX3_readRow_1 17 rfl rfl)
theorem dX3_readRow_41 : decode cX3_readRow 41 = .ok (.invokevirtual 179, 3) := dk_182 0 179 (dk_at dksX3_readRow_1 18 rfl rfl)
theorem dX3_readRow_44 : decode cX3_readRow 44 = .ok (.istore 5, 2) := dk_54 5 (dk_at dksX3_readRow_1 21 rfl rfl)
theorem dX3_readRow_46 : decode cX3_readRow 46 = .ok (.aload_n 0, 1) := dk_42 (dk_at dksX3_readRow_1 23 rfl rfl)
theorem dX3_readRow_47 : decode cX3_readRow 47 = .ok (.invokevirtual 129, 3) := dk_182 0 129 (dk_at dksX3_readRow_2 0 rfl rfl)
theorem dX3_readRow_50 : decode cX3_readRow 50 = .ok (.ifCond .eq 4, 3) := dk_153 0 4 (dk_at dksX3_readRow_2 3 rfl rfl)
theorem dX3_readRow_53 : decode cX3_readRow 53 = .ok (.return_, 1) := dk_177 (dk_at dksX3_readRow_2 6 rfl rfl)
theorem dX3_readRow_54 : decode cX3_readRow 54 = .ok (.aload_n 0, 1) := dk_42 (dk_at dksX3_readRow_2 7 rfl rfl)
theorem dX3_readRow_55 : decode cX3_readRow 55 = .ok (.getfield 13, 3) := dk_180 0 13 (dk_at dksX3_readRow_2 8 rfl rfl)
theorem dX3_readRow_58 : decode cX3_readRow 58 = .ok (.iload_n 1, 1) := dk_27 (dk_at dksX3_readRow_2 11 rfl rfl)
theorem dX3_readRow_59 : decode cX3_readRow 59 = .ok (.iload_n 2, 1) := dk_28 (dk_at dksX3_readRow_2 12 rfl rfl)
theorem dX3_readRow_60 : decode cX3_readRow 60 = .ok (.iload 4, 2) := dk_21 4 (dk_at dksX3_readRow_2 13 rfl rfl)
theorem dX3_readRow_62 : decode cX3_readRow 62 = .ok (.iadd, 1) := dk_96 (dk_at dksX3_readRow_2 15 rfl rfl)
theorem dX3_readRow_63 : decode cX3_readRow 63 = .ok (.invokestatic 63, 3) := dk_184 0 63 (dk_at dksX3_readRow_2 16 rfl rfl)
theorem dX3_readRow_66 : decode cX3_readRow 66 = .ok (.iload 5, 2) := dk_21 5 (dk_at dksX3_readRow_2 19 rfl rfl)
theorem dX3_readRow_68 : decode cX3_readRow 68 = .ok (.iastore, 1) := dk_79 (dk_at dksX3_readRow_2 21 rfl rfl)
theorem dX3_readRow_69 : decode cX3_readRow 69 = .ok (.iinc 4 1, 3) := dk_132 4 1 (dk_at dksX3_readRow_3 0 rfl rfl)
theorem dX3_readRow_72 : decode cX3_readRow 72 = .ok (.aload_n 0, 1) := dk_42 (dk_at dksX3_readRow_3 3 rfl rfl)
theorem dX3_readRow_73 : decode cX3_readRow 73 = .ok (.invokevirtual 143, 3) := dk_182 0 143 (dk_at dksX3_readRow_3 4 rfl rfl)
theorem dX3_readRow_76 : decode cX3_readRow 76 = .ok (.aload_n 0, 1) := dk_42 (dk_at dksX3_readRow_3 7 rfl rfl)
theorem dX3_readRow_77 : decode cX3_readRow 77 = .ok (.bipush 48, 2) := dk_16 48 (dk_at dksX3_readRow_3 8 rfl rfl)
theorem dX3_readRow_79 : decode cX3_readRow 79 = .ok (.bipush 57, 2) := dk_16 57 (dk_at dksX3_readRow_3 10 rfl rfl)
theorem dX3_readRow_81 : decode cX3_readRow 81 = .ok (.invokevirtual 133, 3) := dk_182 0 133 (dk_at dksX3_readRow_3 12 rfl rfl)
theorem dX3_readRow_84 : decode cX3_readRow 84 = .ok (.ifCond .ne (-81), 3) := dk_154 255 175 (dk_at dksX3_readRow_3 15 rfl rfl)
theorem dX3_readRow_87 : decode cX3_readRow 87 = .ok (.return_, 1) := dk_177 (dk_at dksX3_readRow_3 18 rfl rfl)
abbrev cX3_readOf : ByteArray := prog_39_method_48_code
def yX3_readOf : MethodName := ⟨RX3, "readOf", "(I)V"⟩
def dkwX3_readOf_13 : List UInt8 := [182, 0, 245, 177]
abbrev dktX3_readOf_13 : List UInt8 := dkwX3_readOf_13 ++ []
def dkwX3_readOf_12 : List UInt8 := [42, 180, 0, 13, 27, 6, 184, 0, 63, 42, 4, 18, 244, 182, 0, 179, 79, 167, 0, 8, 42, 27]
abbrev dktX3_readOf_12 : List UInt8 := dkwX3_readOf_12 ++ dktX3_readOf_13
def dkwX3_readOf_11 : List UInt8 := [27, 5, 184, 0, 63, 42, 3, 42, 27, 182, 0, 70, 182, 0, 179, 79, 167, 0, 33, 21, 7, 153, 0, 23]
abbrev dktX3_readOf_11 : List UInt8 := dkwX3_readOf_11 ++ dktX3_readOf_12
def dkwX3_readOf_10 : List UInt8 := [153, 0, 15, 42, 27, 16, 39, 18, 244, 182, 0, 240, 167, 0, 61, 21, 6, 153, 0, 26, 42, 180, 0, 13]
abbrev dktX3_readOf_10 : List UInt8 := dkwX3_readOf_10 ++ dktX3_readOf_11
def dkwX3_readOf_9 : List UInt8 := [167, 0, 96, 21, 4, 153, 0, 16, 42, 27, 16, 26, 17, 39, 15, 182, 0, 240, 167, 0, 78, 21, 5]
abbrev dktX3_readOf_9 : List UInt8 := dkwX3_readOf_9 ++ dktX3_readOf_10
def dkwX3_readOf_8 : List UInt8 := [42, 182, 0, 129, 153, 0, 4, 177, 29, 153, 0, 16, 42, 27, 16, 13, 17, 3, 232, 182, 0, 240]
abbrev dktX3_readOf_8 : List UInt8 := dkwX3_readOf_8 ++ dktX3_readOf_9
def dkwX3_readOf_7 : List UInt8 := [42, 28, 181, 0, 137, 42, 21, 8, 153, 0, 11, 27, 155, 0, 7, 4, 167, 0, 4, 3, 4, 182, 0, 163]
abbrev dktX3_readOf_7 : List UInt8 := dkwX3_readOf_7 ++ dktX3_readOf_8
def dkwX3_readOf_6 : List UInt8 := [154, 0, 17, 21, 7, 154, 0, 12, 42, 18, 238, 182, 0, 212, 153, 0, 7, 4, 167, 0, 4, 3, 54, 8]
abbrev dktX3_readOf_6 : List UInt8 := dkwX3_readOf_6 ++ dktX3_readOf_7
def dkwX3_readOf_5 : List UInt8 := [4, 167, 0, 4, 3, 54, 7, 29, 154, 0, 32, 21, 4, 154, 0, 27, 21, 5, 154, 0, 22, 21, 6]
abbrev dktX3_readOf_5 : List UInt8 := dkwX3_readOf_5 ++ dktX3_readOf_6
def dkwX3_readOf_4 : List UInt8 := [21, 4, 154, 0, 26, 21, 5, 154, 0, 21, 21, 6, 154, 0, 16, 42, 18, 236, 182, 0, 212, 153, 0, 7]
abbrev dktX3_readOf_4 : List UInt8 := dkwX3_readOf_4 ++ dktX3_readOf_5
def dkwX3_readOf_3 : List UInt8 := [154, 0, 16, 42, 18, 234, 182, 0, 212, 153, 0, 7, 4, 167, 0, 4, 3, 54, 6, 29, 154, 0, 31]
abbrev dktX3_readOf_3 : List UInt8 := dkwX3_readOf_3 ++ dktX3_readOf_4
def dkwX3_readOf_2 : List UInt8 := [182, 0, 212, 153, 0, 7, 4, 167, 0, 4, 3, 54, 5, 29, 154, 0, 26, 21, 4, 154, 0, 21, 21, 5]
abbrev dktX3_readOf_2 : List UInt8 := dkwX3_readOf_2 ++ dktX3_readOf_3
def dkwX3_readOf_1 : List UInt8 := [153, 0, 7, 4, 167, 0, 4, 3, 54, 4, 29, 154, 0, 21, 21, 4, 154, 0, 16, 42, 18, 232]
abbrev dktX3_readOf_1 : List UInt8 := dkwX3_readOf_1 ++ dktX3_readOf_2
def dkwX3_readOf_0 : List UInt8 := [42, 180, 0, 137, 61, 42, 18, 228, 182, 0, 212, 62, 29, 154, 0, 16, 42, 18, 230, 182, 0, 212]
abbrev dktX3_readOf_0 : List UInt8 := dkwX3_readOf_0 ++ dktX3_readOf_1
theorem dksX3_readOf_0 : cX3_readOf.data.toList.drop 0 = dktX3_readOf_0 := by decide +kernel
theorem dksX3_readOf_1 : cX3_readOf.data.toList.drop 22 = dktX3_readOf_1 := dk_seg dksX3_readOf_0 22 rfl rfl
theorem dksX3_readOf_2 : cX3_readOf.data.toList.drop 44 = dktX3_readOf_2 := dk_seg dksX3_readOf_1 22 rfl rfl
theorem dksX3_readOf_3 : cX3_readOf.data.toList.drop 68 = dktX3_readOf_3 := dk_seg dksX3_readOf_2 24 rfl rfl
theorem dksX3_readOf_4 : cX3_readOf.data.toList.drop 91 = dktX3_readOf_4 := dk_seg dksX3_readOf_3 23 rfl rfl
theorem dksX3_readOf_5 : cX3_readOf.data.toList.drop 115 = dktX3_readOf_5 := dk_seg dksX3_readOf_4 24 rfl rfl
theorem dksX3_readOf_6 : cX3_readOf.data.toList.drop 138 = dktX3_readOf_6 := dk_seg dksX3_readOf_5 23 rfl rfl
theorem dksX3_readOf_7 : cX3_readOf.data.toList.drop 162 = dktX3_readOf_7 := dk_seg dksX3_readOf_6 24 rfl rfl
theorem dksX3_readOf_8 : cX3_readOf.data.toList.drop 186 = dktX3_readOf_8 := dk_seg dksX3_readOf_7 24 rfl rfl
theorem dksX3_readOf_9 : cX3_readOf.data.toList.drop 208 = dktX3_readOf_9 := dk_seg dksX3_readOf_8 22 rfl rfl
theorem dksX3_readOf_10 : cX3_readOf.data.toList.drop 231 = dktX3_readOf_10 := dk_seg dksX3_readOf_9 23 rfl rfl
theorem dksX3_readOf_11 : cX3_readOf.data.toList.drop 255 = dktX3_readOf_11 := dk_seg dksX3_readOf_10 24 rfl rfl
theorem dksX3_readOf_12 : cX3_readOf.data.toList.drop 279 = dktX3_readOf_12 := dk_seg dksX3_readOf_11 24 rfl rfl
theorem dksX3_readOf_13 : cX3_readOf.data.toList.drop 301 = dktX3_readOf_13 := dk_seg dksX3_readOf_12 22 rfl rfl
theorem dX3_readOf_0 : decode cX3_readOf 0 = .ok (.aload_n 0, 1) := dk_42 (dk_at dksX3_readOf_0 0 rfl rfl)
theorem dX3_readOf_1 : decode cX3_readOf 1 = .ok (.getfield 137, 3) := dk_180 0 137 (dk_at dksX3_readOf_0 1 rfl rfl)
theorem dX3_readOf_4 : decode cX3_readOf 4 = .ok (.istore_n 2, 1) := dk_61 (dk_at dksX3_readOf_0 4 rfl rfl)
theorem dX3_readOf_5 : decode cX3_readOf 5 = .ok (.aload_n 0, 1) := dk_42 (dk_at dksX3_readOf_0 5 rfl rfl)
theorem dX3_readOf_6 : decode cX3_readOf 6 = .ok (.ldc 228, 2) := dk_18 228 (dk_at dksX3_readOf_0 6 rfl rfl)
theorem dX3_readOf_8 : decode cX3_readOf 8 = .ok (.invokevirtual 212, 3) := dk_182 0 212 (dk_at dksX3_readOf_0 8 rfl rfl)
theorem dX3_readOf_11 : decode cX3_readOf 11 = .ok (.istore_n 3, 1) := dk_62 (dk_at dksX3_readOf_0 11 rfl rfl)
theorem dX3_readOf_12 : decode cX3_readOf 12 = .ok (.iload_n 3, 1) := dk_29 (dk_at dksX3_readOf_0 12 rfl rfl)
theorem dX3_readOf_13 : decode cX3_readOf 13 = .ok (.ifCond .ne 16, 3) := dk_154 0 16 (dk_at dksX3_readOf_0 13 rfl rfl)
theorem dX3_readOf_16 : decode cX3_readOf 16 = .ok (.aload_n 0, 1) := dk_42 (dk_at dksX3_readOf_0 16 rfl rfl)
theorem dX3_readOf_17 : decode cX3_readOf 17 = .ok (.ldc 230, 2) := dk_18 230 (dk_at dksX3_readOf_0 17 rfl rfl)
theorem dX3_readOf_19 : decode cX3_readOf 19 = .ok (.invokevirtual 212, 3) := dk_182 0 212 (dk_at dksX3_readOf_0 19 rfl rfl)
theorem dX3_readOf_22 : decode cX3_readOf 22 = .ok (.ifCond .eq 7, 3) := dk_153 0 7 (dk_at dksX3_readOf_1 0 rfl rfl)
theorem dX3_readOf_25 : decode cX3_readOf 25 = .ok (.iconst 1, 1) := dk_4 (dk_at dksX3_readOf_1 3 rfl rfl)
theorem dX3_readOf_26 : decode cX3_readOf 26 = .ok (.goto 4, 3) := dk_167 0 4 (dk_at dksX3_readOf_1 4 rfl rfl)
theorem dX3_readOf_29 : decode cX3_readOf 29 = .ok (.iconst 0, 1) := dk_3 (dk_at dksX3_readOf_1 7 rfl rfl)
theorem dX3_readOf_30 : decode cX3_readOf 30 = .ok (.istore 4, 2) := dk_54 4 (dk_at dksX3_readOf_1 8 rfl rfl)
theorem dX3_readOf_32 : decode cX3_readOf 32 = .ok (.iload_n 3, 1) := dk_29 (dk_at dksX3_readOf_1 10 rfl rfl)
theorem dX3_readOf_33 : decode cX3_readOf 33 = .ok (.ifCond .ne 21, 3) := dk_154 0 21 (dk_at dksX3_readOf_1 11 rfl rfl)
theorem dX3_readOf_36 : decode cX3_readOf 36 = .ok (.iload 4, 2) := dk_21 4 (dk_at dksX3_readOf_1 14 rfl rfl)
theorem dX3_readOf_38 : decode cX3_readOf 38 = .ok (.ifCond .ne 16, 3) := dk_154 0 16 (dk_at dksX3_readOf_1 16 rfl rfl)
theorem dX3_readOf_41 : decode cX3_readOf 41 = .ok (.aload_n 0, 1) := dk_42 (dk_at dksX3_readOf_1 19 rfl rfl)
theorem dX3_readOf_42 : decode cX3_readOf 42 = .ok (.ldc 232, 2) := dk_18 232 (dk_at dksX3_readOf_1 20 rfl rfl)
theorem dX3_readOf_44 : decode cX3_readOf 44 = .ok (.invokevirtual 212, 3) := dk_182 0 212 (dk_at dksX3_readOf_2 0 rfl rfl)
theorem dX3_readOf_47 : decode cX3_readOf 47 = .ok (.ifCond .eq 7, 3) := dk_153 0 7 (dk_at dksX3_readOf_2 3 rfl rfl)
theorem dX3_readOf_50 : decode cX3_readOf 50 = .ok (.iconst 1, 1) := dk_4 (dk_at dksX3_readOf_2 6 rfl rfl)
theorem dX3_readOf_51 : decode cX3_readOf 51 = .ok (.goto 4, 3) := dk_167 0 4 (dk_at dksX3_readOf_2 7 rfl rfl)
theorem dX3_readOf_54 : decode cX3_readOf 54 = .ok (.iconst 0, 1) := dk_3 (dk_at dksX3_readOf_2 10 rfl rfl)
theorem dX3_readOf_55 : decode cX3_readOf 55 = .ok (.istore 5, 2) := dk_54 5 (dk_at dksX3_readOf_2 11 rfl rfl)
theorem dX3_readOf_57 : decode cX3_readOf 57 = .ok (.iload_n 3, 1) := dk_29 (dk_at dksX3_readOf_2 13 rfl rfl)
theorem dX3_readOf_58 : decode cX3_readOf 58 = .ok (.ifCond .ne 26, 3) := dk_154 0 26 (dk_at dksX3_readOf_2 14 rfl rfl)
theorem dX3_readOf_61 : decode cX3_readOf 61 = .ok (.iload 4, 2) := dk_21 4 (dk_at dksX3_readOf_2 17 rfl rfl)
theorem dX3_readOf_63 : decode cX3_readOf 63 = .ok (.ifCond .ne 21, 3) := dk_154 0 21 (dk_at dksX3_readOf_2 19 rfl rfl)
theorem dX3_readOf_66 : decode cX3_readOf 66 = .ok (.iload 5, 2) := dk_21 5 (dk_at dksX3_readOf_2 22 rfl rfl)
theorem dX3_readOf_68 : decode cX3_readOf 68 = .ok (.ifCond .ne 16, 3) := dk_154 0 16 (dk_at dksX3_readOf_3 0 rfl rfl)
theorem dX3_readOf_71 : decode cX3_readOf 71 = .ok (.aload_n 0, 1) := dk_42 (dk_at dksX3_readOf_3 3 rfl rfl)
theorem dX3_readOf_72 : decode cX3_readOf 72 = .ok (.ldc 234, 2) := dk_18 234 (dk_at dksX3_readOf_3 4 rfl rfl)
theorem dX3_readOf_74 : decode cX3_readOf 74 = .ok (.invokevirtual 212, 3) := dk_182 0 212 (dk_at dksX3_readOf_3 6 rfl rfl)
theorem dX3_readOf_77 : decode cX3_readOf 77 = .ok (.ifCond .eq 7, 3) := dk_153 0 7 (dk_at dksX3_readOf_3 9 rfl rfl)
theorem dX3_readOf_80 : decode cX3_readOf 80 = .ok (.iconst 1, 1) := dk_4 (dk_at dksX3_readOf_3 12 rfl rfl)
theorem dX3_readOf_81 : decode cX3_readOf 81 = .ok (.goto 4, 3) := dk_167 0 4 (dk_at dksX3_readOf_3 13 rfl rfl)
theorem dX3_readOf_84 : decode cX3_readOf 84 = .ok (.iconst 0, 1) := dk_3 (dk_at dksX3_readOf_3 16 rfl rfl)
theorem dX3_readOf_85 : decode cX3_readOf 85 = .ok (.istore 6, 2) := dk_54 6 (dk_at dksX3_readOf_3 17 rfl rfl)
theorem dX3_readOf_87 : decode cX3_readOf 87 = .ok (.iload_n 3, 1) := dk_29 (dk_at dksX3_readOf_3 19 rfl rfl)
theorem dX3_readOf_88 : decode cX3_readOf 88 = .ok (.ifCond .ne 31, 3) := dk_154 0 31 (dk_at dksX3_readOf_3 20 rfl rfl)
theorem dX3_readOf_91 : decode cX3_readOf 91 = .ok (.iload 4, 2) := dk_21 4 (dk_at dksX3_readOf_4 0 rfl rfl)
theorem dX3_readOf_93 : decode cX3_readOf 93 = .ok (.ifCond .ne 26, 3) := dk_154 0 26 (dk_at dksX3_readOf_4 2 rfl rfl)
theorem dX3_readOf_96 : decode cX3_readOf 96 = .ok (.iload 5, 2) := dk_21 5 (dk_at dksX3_readOf_4 5 rfl rfl)
theorem dX3_readOf_98 : decode cX3_readOf 98 = .ok (.ifCond .ne 21, 3) := dk_154 0 21 (dk_at dksX3_readOf_4 7 rfl rfl)
theorem dX3_readOf_101 : decode cX3_readOf 101 = .ok (.iload 6, 2) := dk_21 6 (dk_at dksX3_readOf_4 10 rfl rfl)
theorem dX3_readOf_103 : decode cX3_readOf 103 = .ok (.ifCond .ne 16, 3) := dk_154 0 16 (dk_at dksX3_readOf_4 12 rfl rfl)
theorem dX3_readOf_106 : decode cX3_readOf 106 = .ok (.aload_n 0, 1) := dk_42 (dk_at dksX3_readOf_4 15 rfl rfl)
theorem dX3_readOf_107 : decode cX3_readOf 107 = .ok (.ldc 236, 2) := dk_18 236 (dk_at dksX3_readOf_4 16 rfl rfl)
theorem dX3_readOf_109 : decode cX3_readOf 109 = .ok (.invokevirtual 212, 3) := dk_182 0 212 (dk_at dksX3_readOf_4 18 rfl rfl)
theorem dX3_readOf_112 : decode cX3_readOf 112 = .ok (.ifCond .eq 7, 3) := dk_153 0 7 (dk_at dksX3_readOf_4 21 rfl rfl)
theorem dX3_readOf_115 : decode cX3_readOf 115 = .ok (.iconst 1, 1) := dk_4 (dk_at dksX3_readOf_5 0 rfl rfl)
theorem dX3_readOf_116 : decode cX3_readOf 116 = .ok (.goto 4, 3) := dk_167 0 4 (dk_at dksX3_readOf_5 1 rfl rfl)
theorem dX3_readOf_119 : decode cX3_readOf 119 = .ok (.iconst 0, 1) := dk_3 (dk_at dksX3_readOf_5 4 rfl rfl)
theorem dX3_readOf_120 : decode cX3_readOf 120 = .ok (.istore 7, 2) := dk_54 7 (dk_at dksX3_readOf_5 5 rfl rfl)
theorem dX3_readOf_122 : decode cX3_readOf 122 = .ok (.iload_n 3, 1) := dk_29 (dk_at dksX3_readOf_5 7 rfl rfl)
theorem dX3_readOf_123 : decode cX3_readOf 123 = .ok (.ifCond .ne 32, 3) := dk_154 0 32 (dk_at dksX3_readOf_5 8 rfl rfl)
theorem dX3_readOf_126 : decode cX3_readOf 126 = .ok (.iload 4, 2) := dk_21 4 (dk_at dksX3_readOf_5 11 rfl rfl)
theorem dX3_readOf_128 : decode cX3_readOf 128 = .ok (.ifCond .ne 27, 3) := dk_154 0 27 (dk_at dksX3_readOf_5 13 rfl rfl)
theorem dX3_readOf_131 : decode cX3_readOf 131 = .ok (.iload 5, 2) := dk_21 5 (dk_at dksX3_readOf_5 16 rfl rfl)
theorem dX3_readOf_133 : decode cX3_readOf 133 = .ok (.ifCond .ne 22, 3) := dk_154 0 22 (dk_at dksX3_readOf_5 18 rfl rfl)
theorem dX3_readOf_136 : decode cX3_readOf 136 = .ok (.iload 6, 2) := dk_21 6 (dk_at dksX3_readOf_5 21 rfl rfl)
theorem dX3_readOf_138 : decode cX3_readOf 138 = .ok (.ifCond .ne 17, 3) := dk_154 0 17 (dk_at dksX3_readOf_6 0 rfl rfl)
theorem dX3_readOf_141 : decode cX3_readOf 141 = .ok (.iload 7, 2) := dk_21 7 (dk_at dksX3_readOf_6 3 rfl rfl)
theorem dX3_readOf_143 : decode cX3_readOf 143 = .ok (.ifCond .ne 12, 3) := dk_154 0 12 (dk_at dksX3_readOf_6 5 rfl rfl)
theorem dX3_readOf_146 : decode cX3_readOf 146 = .ok (.aload_n 0, 1) := dk_42 (dk_at dksX3_readOf_6 8 rfl rfl)
theorem dX3_readOf_147 : decode cX3_readOf 147 = .ok (.ldc 238, 2) := dk_18 238 (dk_at dksX3_readOf_6 9 rfl rfl)
theorem dX3_readOf_149 : decode cX3_readOf 149 = .ok (.invokevirtual 212, 3) := dk_182 0 212 (dk_at dksX3_readOf_6 11 rfl rfl)
theorem dX3_readOf_152 : decode cX3_readOf 152 = .ok (.ifCond .eq 7, 3) := dk_153 0 7 (dk_at dksX3_readOf_6 14 rfl rfl)
theorem dX3_readOf_155 : decode cX3_readOf 155 = .ok (.iconst 1, 1) := dk_4 (dk_at dksX3_readOf_6 17 rfl rfl)
theorem dX3_readOf_156 : decode cX3_readOf 156 = .ok (.goto 4, 3) := dk_167 0 4 (dk_at dksX3_readOf_6 18 rfl rfl)
theorem dX3_readOf_159 : decode cX3_readOf 159 = .ok (.iconst 0, 1) := dk_3 (dk_at dksX3_readOf_6 21 rfl rfl)
theorem dX3_readOf_160 : decode cX3_readOf 160 = .ok (.istore 8, 2) := dk_54 8 (dk_at dksX3_readOf_6 22 rfl rfl)
theorem dX3_readOf_162 : decode cX3_readOf 162 = .ok (.aload_n 0, 1) := dk_42 (dk_at dksX3_readOf_7 0 rfl rfl)
theorem dX3_readOf_163 : decode cX3_readOf 163 = .ok (.iload_n 2, 1) := dk_28 (dk_at dksX3_readOf_7 1 rfl rfl)
theorem dX3_readOf_164 : decode cX3_readOf 164 = .ok (.putfield 137, 3) := dk_181 0 137 (dk_at dksX3_readOf_7 2 rfl rfl)
theorem dX3_readOf_167 : decode cX3_readOf 167 = .ok (.aload_n 0, 1) := dk_42 (dk_at dksX3_readOf_7 5 rfl rfl)
theorem dX3_readOf_168 : decode cX3_readOf 168 = .ok (.iload 8, 2) := dk_21 8 (dk_at dksX3_readOf_7 6 rfl rfl)
theorem dX3_readOf_170 : decode cX3_readOf 170 = .ok (.ifCond .eq 11, 3) := dk_153 0 11 (dk_at dksX3_readOf_7 8 rfl rfl)
theorem dX3_readOf_173 : decode cX3_readOf 173 = .ok (.iload_n 1, 1) := dk_27 (dk_at dksX3_readOf_7 11 rfl rfl)
theorem dX3_readOf_174 : decode cX3_readOf 174 = .ok (.ifCond .lt 7, 3) := dk_155 0 7 (dk_at dksX3_readOf_7 12 rfl rfl)
theorem dX3_readOf_177 : decode cX3_readOf 177 = .ok (.iconst 1, 1) := dk_4 (dk_at dksX3_readOf_7 15 rfl rfl)
theorem dX3_readOf_178 : decode cX3_readOf 178 = .ok (.goto 4, 3) := dk_167 0 4 (dk_at dksX3_readOf_7 16 rfl rfl)
theorem dX3_readOf_181 : decode cX3_readOf 181 = .ok (.iconst 0, 1) := dk_3 (dk_at dksX3_readOf_7 19 rfl rfl)
theorem dX3_readOf_182 : decode cX3_readOf 182 = .ok (.iconst 1, 1) := dk_4 (dk_at dksX3_readOf_7 20 rfl rfl)
theorem dX3_readOf_183 : decode cX3_readOf 183 = .ok (.invokevirtual 163, 3) := dk_182 0 163 (dk_at dksX3_readOf_7 21 rfl rfl)
theorem dX3_readOf_186 : decode cX3_readOf 186 = .ok (.aload_n 0, 1) := dk_42 (dk_at dksX3_readOf_8 0 rfl rfl)
theorem dX3_readOf_187 : decode cX3_readOf 187 = .ok (.invokevirtual 129, 3) := dk_182 0 129 (dk_at dksX3_readOf_8 1 rfl rfl)
theorem dX3_readOf_190 : decode cX3_readOf 190 = .ok (.ifCond .eq 4, 3) := dk_153 0 4 (dk_at dksX3_readOf_8 4 rfl rfl)
theorem dX3_readOf_193 : decode cX3_readOf 193 = .ok (.return_, 1) := dk_177 (dk_at dksX3_readOf_8 7 rfl rfl)
theorem dX3_readOf_194 : decode cX3_readOf 194 = .ok (.iload_n 3, 1) := dk_29 (dk_at dksX3_readOf_8 8 rfl rfl)
theorem dX3_readOf_195 : decode cX3_readOf 195 = .ok (.ifCond .eq 16, 3) := dk_153 0 16 (dk_at dksX3_readOf_8 9 rfl rfl)
theorem dX3_readOf_198 : decode cX3_readOf 198 = .ok (.aload_n 0, 1) := dk_42 (dk_at dksX3_readOf_8 12 rfl rfl)
theorem dX3_readOf_199 : decode cX3_readOf 199 = .ok (.iload_n 1, 1) := dk_27 (dk_at dksX3_readOf_8 13 rfl rfl)
theorem dX3_readOf_200 : decode cX3_readOf 200 = .ok (.bipush 13, 2) := dk_16 13 (dk_at dksX3_readOf_8 14 rfl rfl)
theorem dX3_readOf_202 : decode cX3_readOf 202 = .ok (.sipush 1000, 3) := dk_17 3 232 (dk_at dksX3_readOf_8 16 rfl rfl)
theorem dX3_readOf_205 : decode cX3_readOf 205 = .ok (.invokevirtual 240, 3) := dk_182 0 240 (dk_at dksX3_readOf_8 19 rfl rfl)
theorem dX3_readOf_208 : decode cX3_readOf 208 = .ok (.goto 96, 3) := dk_167 0 96 (dk_at dksX3_readOf_9 0 rfl rfl)
theorem dX3_readOf_211 : decode cX3_readOf 211 = .ok (.iload 4, 2) := dk_21 4 (dk_at dksX3_readOf_9 3 rfl rfl)
theorem dX3_readOf_213 : decode cX3_readOf 213 = .ok (.ifCond .eq 16, 3) := dk_153 0 16 (dk_at dksX3_readOf_9 5 rfl rfl)
theorem dX3_readOf_216 : decode cX3_readOf 216 = .ok (.aload_n 0, 1) := dk_42 (dk_at dksX3_readOf_9 8 rfl rfl)
theorem dX3_readOf_217 : decode cX3_readOf 217 = .ok (.iload_n 1, 1) := dk_27 (dk_at dksX3_readOf_9 9 rfl rfl)
theorem dX3_readOf_218 : decode cX3_readOf 218 = .ok (.bipush 26, 2) := dk_16 26 (dk_at dksX3_readOf_9 10 rfl rfl)
theorem dX3_readOf_220 : decode cX3_readOf 220 = .ok (.sipush 9999, 3) := dk_17 39 15 (dk_at dksX3_readOf_9 12 rfl rfl)
theorem dX3_readOf_223 : decode cX3_readOf 223 = .ok (.invokevirtual 240, 3) := dk_182 0 240 (dk_at dksX3_readOf_9 15 rfl rfl)
theorem dX3_readOf_226 : decode cX3_readOf 226 = .ok (.goto 78, 3) := dk_167 0 78 (dk_at dksX3_readOf_9 18 rfl rfl)
theorem dX3_readOf_229 : decode cX3_readOf 229 = .ok (.iload 5, 2) := dk_21 5 (dk_at dksX3_readOf_9 21 rfl rfl)
theorem dX3_readOf_231 : decode cX3_readOf 231 = .ok (.ifCond .eq 15, 3) := dk_153 0 15 (dk_at dksX3_readOf_10 0 rfl rfl)
theorem dX3_readOf_234 : decode cX3_readOf 234 = .ok (.aload_n 0, 1) := dk_42 (dk_at dksX3_readOf_10 3 rfl rfl)
theorem dX3_readOf_235 : decode cX3_readOf 235 = .ok (.iload_n 1, 1) := dk_27 (dk_at dksX3_readOf_10 4 rfl rfl)
theorem dX3_readOf_236 : decode cX3_readOf 236 = .ok (.bipush 39, 2) := dk_16 39 (dk_at dksX3_readOf_10 5 rfl rfl)
theorem dX3_readOf_238 : decode cX3_readOf 238 = .ok (.ldc 244, 2) := dk_18 244 (dk_at dksX3_readOf_10 7 rfl rfl)
theorem dX3_readOf_240 : decode cX3_readOf 240 = .ok (.invokevirtual 240, 3) := dk_182 0 240 (dk_at dksX3_readOf_10 9 rfl rfl)
theorem dX3_readOf_243 : decode cX3_readOf 243 = .ok (.goto 61, 3) := dk_167 0 61 (dk_at dksX3_readOf_10 12 rfl rfl)
theorem dX3_readOf_246 : decode cX3_readOf 246 = .ok (.iload 6, 2) := dk_21 6 (dk_at dksX3_readOf_10 15 rfl rfl)
theorem dX3_readOf_248 : decode cX3_readOf 248 = .ok (.ifCond .eq 26, 3) := dk_153 0 26 (dk_at dksX3_readOf_10 17 rfl rfl)
theorem dX3_readOf_251 : decode cX3_readOf 251 = .ok (.aload_n 0, 1) := dk_42 (dk_at dksX3_readOf_10 20 rfl rfl)
theorem dX3_readOf_252 : decode cX3_readOf 252 = .ok (.getfield 13, 3) := dk_180 0 13 (dk_at dksX3_readOf_10 21 rfl rfl)
theorem dX3_readOf_255 : decode cX3_readOf 255 = .ok (.iload_n 1, 1) := dk_27 (dk_at dksX3_readOf_11 0 rfl rfl)
theorem dX3_readOf_256 : decode cX3_readOf 256 = .ok (.iconst 2, 1) := dk_5 (dk_at dksX3_readOf_11 1 rfl rfl)
theorem dX3_readOf_257 : decode cX3_readOf 257 = .ok (.invokestatic 63, 3) := dk_184 0 63 (dk_at dksX3_readOf_11 2 rfl rfl)
theorem dX3_readOf_260 : decode cX3_readOf 260 = .ok (.aload_n 0, 1) := dk_42 (dk_at dksX3_readOf_11 5 rfl rfl)
theorem dX3_readOf_261 : decode cX3_readOf 261 = .ok (.iconst 0, 1) := dk_3 (dk_at dksX3_readOf_11 6 rfl rfl)
theorem dX3_readOf_262 : decode cX3_readOf 262 = .ok (.aload_n 0, 1) := dk_42 (dk_at dksX3_readOf_11 7 rfl rfl)
theorem dX3_readOf_263 : decode cX3_readOf 263 = .ok (.iload_n 1, 1) := dk_27 (dk_at dksX3_readOf_11 8 rfl rfl)
theorem dX3_readOf_264 : decode cX3_readOf 264 = .ok (.invokevirtual 70, 3) := dk_182 0 70 (dk_at dksX3_readOf_11 9 rfl rfl)
theorem dX3_readOf_267 : decode cX3_readOf 267 = .ok (.invokevirtual 179, 3) := dk_182 0 179 (dk_at dksX3_readOf_11 12 rfl rfl)
theorem dX3_readOf_270 : decode cX3_readOf 270 = .ok (.iastore, 1) := dk_79 (dk_at dksX3_readOf_11 15 rfl rfl)
theorem dX3_readOf_271 : decode cX3_readOf 271 = .ok (.goto 33, 3) := dk_167 0 33 (dk_at dksX3_readOf_11 16 rfl rfl)
theorem dX3_readOf_274 : decode cX3_readOf 274 = .ok (.iload 7, 2) := dk_21 7 (dk_at dksX3_readOf_11 19 rfl rfl)
theorem dX3_readOf_276 : decode cX3_readOf 276 = .ok (.ifCond .eq 23, 3) := dk_153 0 23 (dk_at dksX3_readOf_11 21 rfl rfl)
theorem dX3_readOf_279 : decode cX3_readOf 279 = .ok (.aload_n 0, 1) := dk_42 (dk_at dksX3_readOf_12 0 rfl rfl)
theorem dX3_readOf_280 : decode cX3_readOf 280 = .ok (.getfield 13, 3) := dk_180 0 13 (dk_at dksX3_readOf_12 1 rfl rfl)
theorem dX3_readOf_283 : decode cX3_readOf 283 = .ok (.iload_n 1, 1) := dk_27 (dk_at dksX3_readOf_12 4 rfl rfl)
theorem dX3_readOf_284 : decode cX3_readOf 284 = .ok (.iconst 3, 1) := dk_6 (dk_at dksX3_readOf_12 5 rfl rfl)
theorem dX3_readOf_285 : decode cX3_readOf 285 = .ok (.invokestatic 63, 3) := dk_184 0 63 (dk_at dksX3_readOf_12 6 rfl rfl)
theorem dX3_readOf_288 : decode cX3_readOf 288 = .ok (.aload_n 0, 1) := dk_42 (dk_at dksX3_readOf_12 9 rfl rfl)
theorem dX3_readOf_289 : decode cX3_readOf 289 = .ok (.iconst 1, 1) := dk_4 (dk_at dksX3_readOf_12 10 rfl rfl)
theorem dX3_readOf_290 : decode cX3_readOf 290 = .ok (.ldc 244, 2) := dk_18 244 (dk_at dksX3_readOf_12 11 rfl rfl)
theorem dX3_readOf_292 : decode cX3_readOf 292 = .ok (.invokevirtual 179, 3) := dk_182 0 179 (dk_at dksX3_readOf_12 13 rfl rfl)
theorem dX3_readOf_295 : decode cX3_readOf 295 = .ok (.iastore, 1) := dk_79 (dk_at dksX3_readOf_12 16 rfl rfl)
theorem dX3_readOf_296 : decode cX3_readOf 296 = .ok (.goto 8, 3) := dk_167 0 8 (dk_at dksX3_readOf_12 17 rfl rfl)
theorem dX3_readOf_299 : decode cX3_readOf 299 = .ok (.aload_n 0, 1) := dk_42 (dk_at dksX3_readOf_12 20 rfl rfl)
theorem dX3_readOf_300 : decode cX3_readOf 300 = .ok (.iload_n 1, 1) := dk_27 (dk_at dksX3_readOf_12 21 rfl rfl)
theorem dX3_readOf_301 : decode cX3_readOf 301 = .ok (.invokevirtual 245, 3) := dk_182 0 245 (dk_at dksX3_readOf_13 0 rfl rfl)
theorem dX3_readOf_304 : decode cX3_readOf 304 = .ok (.return_, 1) := dk_177 (dk_at dksX3_readOf_13 3 rfl rfl)
abbrev cX3_nameHere : ByteArray := prog_39_method_36_code
def yX3_nameHere : MethodName := ⟨RX3, "nameHere", "()I"⟩
def dkwX3_nameHere_2 : List UInt8 := [96, 51, 96, 16, 97, 100, 4, 96, 61, 132, 3, 1, 167, 255, 219, 28, 172]
abbrev dktX3_nameHere_2 : List UInt8 := dkwX3_nameHere_2 ++ []
def dkwX3_nameHere_1 : List UInt8 := [27, 162, 0, 38, 42, 182, 0, 129, 154, 0, 31, 16, 27, 28, 104, 42, 180, 0, 37, 42, 180, 0, 123, 29]
abbrev dktX3_nameHere_1 : List UInt8 := dkwX3_nameHere_1 ++ dktX3_nameHere_2
def dkwX3_nameHere_0 : List UInt8 := [42, 182, 0, 146, 60, 42, 27, 133, 10, 20, 0, 171, 184, 0, 167, 4, 182, 0, 163, 3, 61, 3, 62, 29]
abbrev dktX3_nameHere_0 : List UInt8 := dkwX3_nameHere_0 ++ dktX3_nameHere_1
theorem dksX3_nameHere_0 : cX3_nameHere.data.toList.drop 0 = dktX3_nameHere_0 := by decide +kernel
theorem dksX3_nameHere_1 : cX3_nameHere.data.toList.drop 24 = dktX3_nameHere_1 := dk_seg dksX3_nameHere_0 24 rfl rfl
theorem dksX3_nameHere_2 : cX3_nameHere.data.toList.drop 48 = dktX3_nameHere_2 := dk_seg dksX3_nameHere_1 24 rfl rfl
theorem dX3_nameHere_0 : decode cX3_nameHere 0 = .ok (.aload_n 0, 1) := dk_42 (dk_at dksX3_nameHere_0 0 rfl rfl)
theorem dX3_nameHere_1 : decode cX3_nameHere 1 = .ok (.invokevirtual 146, 3) := dk_182 0 146 (dk_at dksX3_nameHere_0 1 rfl rfl)
theorem dX3_nameHere_4 : decode cX3_nameHere 4 = .ok (.istore_n 1, 1) := dk_60 (dk_at dksX3_nameHere_0 4 rfl rfl)
theorem dX3_nameHere_5 : decode cX3_nameHere 5 = .ok (.aload_n 0, 1) := dk_42 (dk_at dksX3_nameHere_0 5 rfl rfl)
theorem dX3_nameHere_6 : decode cX3_nameHere 6 = .ok (.iload_n 1, 1) := dk_27 (dk_at dksX3_nameHere_0 6 rfl rfl)
theorem dX3_nameHere_7 : decode cX3_nameHere 7 = .ok (.i2l, 1) := dk_133 (dk_at dksX3_nameHere_0 7 rfl rfl)
theorem dX3_nameHere_8 : decode cX3_nameHere 8 = .ok (.lconst 1, 1) := dk_10 (dk_at dksX3_nameHere_0 8 rfl rfl)
theorem dX3_nameHere_9 : decode cX3_nameHere 9 = .ok (.ldc2_w 171, 3) := dk_20 0 171 (dk_at dksX3_nameHere_0 9 rfl rfl)
theorem dX3_nameHere_12 : decode cX3_nameHere 12 = .ok (.invokestatic 167, 3) := dk_184 0 167 (dk_at dksX3_nameHere_0 12 rfl rfl)
theorem dX3_nameHere_15 : decode cX3_nameHere 15 = .ok (.iconst 1, 1) := dk_4 (dk_at dksX3_nameHere_0 15 rfl rfl)
theorem dX3_nameHere_16 : decode cX3_nameHere 16 = .ok (.invokevirtual 163, 3) := dk_182 0 163 (dk_at dksX3_nameHere_0 16 rfl rfl)
theorem dX3_nameHere_19 : decode cX3_nameHere 19 = .ok (.iconst 0, 1) := dk_3 (dk_at dksX3_nameHere_0 19 rfl rfl)
theorem dX3_nameHere_20 : decode cX3_nameHere 20 = .ok (.istore_n 2, 1) := dk_61 (dk_at dksX3_nameHere_0 20 rfl rfl)
theorem dX3_nameHere_21 : decode cX3_nameHere 21 = .ok (.iconst 0, 1) := dk_3 (dk_at dksX3_nameHere_0 21 rfl rfl)
theorem dX3_nameHere_22 : decode cX3_nameHere 22 = .ok (.istore_n 3, 1) := dk_62 (dk_at dksX3_nameHere_0 22 rfl rfl)
theorem dX3_nameHere_23 : decode cX3_nameHere 23 = .ok (.iload_n 3, 1) := dk_29 (dk_at dksX3_nameHere_0 23 rfl rfl)
theorem dX3_nameHere_24 : decode cX3_nameHere 24 = .ok (.iload_n 1, 1) := dk_27 (dk_at dksX3_nameHere_1 0 rfl rfl)
theorem dX3_nameHere_25 : decode cX3_nameHere 25 = .ok (.if_icmp .ge 38, 3) := dk_162 0 38 (dk_at dksX3_nameHere_1 1 rfl rfl)
theorem dX3_nameHere_28 : decode cX3_nameHere 28 = .ok (.aload_n 0, 1) := dk_42 (dk_at dksX3_nameHere_1 4 rfl rfl)
theorem dX3_nameHere_29 : decode cX3_nameHere 29 = .ok (.invokevirtual 129, 3) := dk_182 0 129 (dk_at dksX3_nameHere_1 5 rfl rfl)
theorem dX3_nameHere_32 : decode cX3_nameHere 32 = .ok (.ifCond .ne 31, 3) := dk_154 0 31 (dk_at dksX3_nameHere_1 8 rfl rfl)
theorem dX3_nameHere_35 : decode cX3_nameHere 35 = .ok (.bipush 27, 2) := dk_16 27 (dk_at dksX3_nameHere_1 11 rfl rfl)
theorem dX3_nameHere_37 : decode cX3_nameHere 37 = .ok (.iload_n 2, 1) := dk_28 (dk_at dksX3_nameHere_1 13 rfl rfl)
theorem dX3_nameHere_38 : decode cX3_nameHere 38 = .ok (.imul, 1) := dk_104 (dk_at dksX3_nameHere_1 14 rfl rfl)
theorem dX3_nameHere_39 : decode cX3_nameHere 39 = .ok (.aload_n 0, 1) := dk_42 (dk_at dksX3_nameHere_1 15 rfl rfl)
theorem dX3_nameHere_40 : decode cX3_nameHere 40 = .ok (.getfield 37, 3) := dk_180 0 37 (dk_at dksX3_nameHere_1 16 rfl rfl)
theorem dX3_nameHere_43 : decode cX3_nameHere 43 = .ok (.aload_n 0, 1) := dk_42 (dk_at dksX3_nameHere_1 19 rfl rfl)
theorem dX3_nameHere_44 : decode cX3_nameHere 44 = .ok (.getfield 123, 3) := dk_180 0 123 (dk_at dksX3_nameHere_1 20 rfl rfl)
theorem dX3_nameHere_47 : decode cX3_nameHere 47 = .ok (.iload_n 3, 1) := dk_29 (dk_at dksX3_nameHere_1 23 rfl rfl)
theorem dX3_nameHere_48 : decode cX3_nameHere 48 = .ok (.iadd, 1) := dk_96 (dk_at dksX3_nameHere_2 0 rfl rfl)
theorem dX3_nameHere_49 : decode cX3_nameHere 49 = .ok (.baload, 1) := dk_51 (dk_at dksX3_nameHere_2 1 rfl rfl)
theorem dX3_nameHere_50 : decode cX3_nameHere 50 = .ok (.iadd, 1) := dk_96 (dk_at dksX3_nameHere_2 2 rfl rfl)
theorem dX3_nameHere_51 : decode cX3_nameHere 51 = .ok (.bipush 97, 2) := dk_16 97 (dk_at dksX3_nameHere_2 3 rfl rfl)
theorem dX3_nameHere_53 : decode cX3_nameHere 53 = .ok (.isub, 1) := dk_100 (dk_at dksX3_nameHere_2 5 rfl rfl)
theorem dX3_nameHere_54 : decode cX3_nameHere 54 = .ok (.iconst 1, 1) := dk_4 (dk_at dksX3_nameHere_2 6 rfl rfl)
theorem dX3_nameHere_55 : decode cX3_nameHere 55 = .ok (.iadd, 1) := dk_96 (dk_at dksX3_nameHere_2 7 rfl rfl)
theorem dX3_nameHere_56 : decode cX3_nameHere 56 = .ok (.istore_n 2, 1) := dk_61 (dk_at dksX3_nameHere_2 8 rfl rfl)
theorem dX3_nameHere_57 : decode cX3_nameHere 57 = .ok (.iinc 3 1, 3) := dk_132 3 1 (dk_at dksX3_nameHere_2 9 rfl rfl)
theorem dX3_nameHere_60 : decode cX3_nameHere 60 = .ok (.goto (-37), 3) := dk_167 255 219 (dk_at dksX3_nameHere_2 12 rfl rfl)
theorem dX3_nameHere_63 : decode cX3_nameHere 63 = .ok (.iload_n 2, 1) := dk_28 (dk_at dksX3_nameHere_2 15 rfl rfl)
theorem dX3_nameHere_64 : decode cX3_nameHere 64 = .ok (.ireturn, 1) := dk_172 (dk_at dksX3_nameHere_2 16 rfl rfl)
abbrev cX3_named : ByteArray := prog_39_method_37_code
def yX3_named : MethodName := ⟨RX3, "named", "(I)I"⟩
def dkwX3_named_1 : List UInt8 := [132, 2, 1, 167, 255, 231, 2, 172]
abbrev dktX3_named_1 : List UInt8 := dkwX3_named_1 ++ []
def dkwX3_named_0 : List UInt8 := [3, 61, 28, 42, 180, 0, 13, 3, 46, 162, 0, 21, 42, 28, 3, 182, 0, 67, 27, 160, 0, 5, 28, 172]
abbrev dktX3_named_0 : List UInt8 := dkwX3_named_0 ++ dktX3_named_1
theorem dksX3_named_0 : cX3_named.data.toList.drop 0 = dktX3_named_0 := by decide +kernel
theorem dksX3_named_1 : cX3_named.data.toList.drop 24 = dktX3_named_1 := dk_seg dksX3_named_0 24 rfl rfl
theorem dX3_named_0 : decode cX3_named 0 = .ok (.iconst 0, 1) := dk_3 (dk_at dksX3_named_0 0 rfl rfl)
theorem dX3_named_1 : decode cX3_named 1 = .ok (.istore_n 2, 1) := dk_61 (dk_at dksX3_named_0 1 rfl rfl)
theorem dX3_named_2 : decode cX3_named 2 = .ok (.iload_n 2, 1) := dk_28 (dk_at dksX3_named_0 2 rfl rfl)
theorem dX3_named_3 : decode cX3_named 3 = .ok (.aload_n 0, 1) := dk_42 (dk_at dksX3_named_0 3 rfl rfl)
theorem dX3_named_4 : decode cX3_named 4 = .ok (.getfield 13, 3) := dk_180 0 13 (dk_at dksX3_named_0 4 rfl rfl)
theorem dX3_named_7 : decode cX3_named 7 = .ok (.iconst 0, 1) := dk_3 (dk_at dksX3_named_0 7 rfl rfl)
theorem dX3_named_8 : decode cX3_named 8 = .ok (.iaload, 1) := dk_46 (dk_at dksX3_named_0 8 rfl rfl)
theorem dX3_named_9 : decode cX3_named 9 = .ok (.if_icmp .ge 21, 3) := dk_162 0 21 (dk_at dksX3_named_0 9 rfl rfl)
theorem dX3_named_12 : decode cX3_named 12 = .ok (.aload_n 0, 1) := dk_42 (dk_at dksX3_named_0 12 rfl rfl)
theorem dX3_named_13 : decode cX3_named 13 = .ok (.iload_n 2, 1) := dk_28 (dk_at dksX3_named_0 13 rfl rfl)
theorem dX3_named_14 : decode cX3_named 14 = .ok (.iconst 0, 1) := dk_3 (dk_at dksX3_named_0 14 rfl rfl)
theorem dX3_named_15 : decode cX3_named 15 = .ok (.invokevirtual 67, 3) := dk_182 0 67 (dk_at dksX3_named_0 15 rfl rfl)
theorem dX3_named_18 : decode cX3_named 18 = .ok (.iload_n 1, 1) := dk_27 (dk_at dksX3_named_0 18 rfl rfl)
theorem dX3_named_19 : decode cX3_named 19 = .ok (.if_icmp .ne 5, 3) := dk_160 0 5 (dk_at dksX3_named_0 19 rfl rfl)
theorem dX3_named_22 : decode cX3_named 22 = .ok (.iload_n 2, 1) := dk_28 (dk_at dksX3_named_0 22 rfl rfl)
theorem dX3_named_23 : decode cX3_named 23 = .ok (.ireturn, 1) := dk_172 (dk_at dksX3_named_0 23 rfl rfl)
theorem dX3_named_24 : decode cX3_named 24 = .ok (.iinc 2 1, 3) := dk_132 2 1 (dk_at dksX3_named_1 0 rfl rfl)
theorem dX3_named_27 : decode cX3_named 27 = .ok (.goto (-25), 3) := dk_167 255 231 (dk_at dksX3_named_1 3 rfl rfl)
theorem dX3_named_30 : decode cX3_named 30 = .ok (.iconst (-1), 1) := dk_2 (dk_at dksX3_named_1 6 rfl rfl)
theorem dX3_named_31 : decode cX3_named 31 = .ok (.ireturn, 1) := dk_172 (dk_at dksX3_named_1 7 rfl rfl)
abbrev cX3_readSpecies : ByteArray := prog_39_method_38_code
def yX3_readSpecies : MethodName := ⟨RX3, "readSpecies", "(I)V"⟩
def dkwX3_readSpecies_8 : List UInt8 := [180, 0, 13, 3, 92, 46, 4, 96, 79, 177]
abbrev dktX3_readSpecies_8 : List UInt8 := dkwX3_readSpecies_8 ++ []
def dkwX3_readSpecies_7 : List UInt8 := [17, 1, 244, 79, 132, 5, 1, 167, 255, 228, 42, 180, 0, 30, 17, 5, 121, 21, 4, 104, 3, 79, 42]
abbrev dktX3_readSpecies_7 : List UInt8 := dkwX3_readSpecies_7 ++ dktX3_readSpecies_8
def dkwX3_readSpecies_6 : List UInt8 := [3, 54, 5, 21, 5, 16, 13, 162, 0, 27, 42, 180, 0, 13, 21, 4, 16, 13, 21, 5, 96, 184, 0, 63]
abbrev dktX3_readSpecies_6 : List UInt8 := dkwX3_readSpecies_6 ++ dktX3_readSpecies_7
def dkwX3_readSpecies_5 : List UInt8 := [42, 180, 0, 13, 21, 4, 4, 184, 0, 63, 29, 79, 42, 180, 0, 13, 21, 4, 5, 184, 0, 63, 4, 79]
abbrev dktX3_readSpecies_5 : List UInt8 := dkwX3_readSpecies_5 ++ dktX3_readSpecies_6
def dkwX3_readSpecies_4 : List UInt8 := [153, 0, 4, 177, 42, 180, 0, 13, 3, 46, 54, 4, 42, 180, 0, 13, 21, 4, 3, 184, 0, 63, 28, 79]
abbrev dktX3_readSpecies_4 : List UInt8 := dkwX3_readSpecies_4 ++ dktX3_readSpecies_5
def dkwX3_readSpecies_3 : List UInt8 := [180, 0, 123, 42, 182, 0, 146, 96, 181, 0, 123, 42, 4, 16, 12, 182, 0, 179, 62, 42, 182, 0, 129]
abbrev dktX3_readSpecies_3 : List UInt8 := dkwX3_readSpecies_3 ++ dktX3_readSpecies_4
def dkwX3_readSpecies_2 : List UInt8 := [160, 0, 7, 4, 167, 0, 4, 3, 6, 182, 0, 163, 42, 182, 0, 129, 153, 0, 4, 177, 42, 89]
abbrev dktX3_readSpecies_2 : List UInt8 := dkwX3_readSpecies_2 ++ dktX3_readSpecies_3
def dkwX3_readSpecies_1 : List UInt8 := [182, 0, 163, 42, 182, 0, 129, 153, 0, 4, 177, 42, 182, 0, 173, 61, 42, 42, 28, 182, 0, 176, 2]
abbrev dktX3_readSpecies_1 : List UInt8 := dkwX3_readSpecies_1 ++ dktX3_readSpecies_2
def dkwX3_readSpecies_0 : List UInt8 := [42, 27, 181, 0, 137, 42, 42, 180, 0, 13, 3, 46, 7, 162, 0, 7, 4, 167, 0, 4, 3, 8]
abbrev dktX3_readSpecies_0 : List UInt8 := dkwX3_readSpecies_0 ++ dktX3_readSpecies_1
theorem dksX3_readSpecies_0 : cX3_readSpecies.data.toList.drop 0 = dktX3_readSpecies_0 := by decide +kernel
theorem dksX3_readSpecies_1 : cX3_readSpecies.data.toList.drop 22 = dktX3_readSpecies_1 := dk_seg dksX3_readSpecies_0 22 rfl rfl
theorem dksX3_readSpecies_2 : cX3_readSpecies.data.toList.drop 45 = dktX3_readSpecies_2 := dk_seg dksX3_readSpecies_1 23 rfl rfl
theorem dksX3_readSpecies_3 : cX3_readSpecies.data.toList.drop 67 = dktX3_readSpecies_3 := dk_seg dksX3_readSpecies_2 22 rfl rfl
theorem dksX3_readSpecies_4 : cX3_readSpecies.data.toList.drop 90 = dktX3_readSpecies_4 := dk_seg dksX3_readSpecies_3 23 rfl rfl
theorem dksX3_readSpecies_5 : cX3_readSpecies.data.toList.drop 114 = dktX3_readSpecies_5 := dk_seg dksX3_readSpecies_4 24 rfl rfl
theorem dksX3_readSpecies_6 : cX3_readSpecies.data.toList.drop 138 = dktX3_readSpecies_6 := dk_seg dksX3_readSpecies_5 24 rfl rfl
theorem dksX3_readSpecies_7 : cX3_readSpecies.data.toList.drop 162 = dktX3_readSpecies_7 := dk_seg dksX3_readSpecies_6 24 rfl rfl
theorem dksX3_readSpecies_8 : cX3_readSpecies.data.toList.drop 185 = dktX3_readSpecies_8 := dk_seg dksX3_readSpecies_7 23 rfl rfl
theorem dX3_readSpecies_0 : decode cX3_readSpecies 0 = .ok (.aload_n 0, 1) := dk_42 (dk_at dksX3_readSpecies_0 0 rfl rfl)
theorem dX3_readSpecies_1 : decode cX3_readSpecies 1 = .ok (.iload_n 1, 1) := dk_27 (dk_at dksX3_readSpecies_0 1 rfl rfl)
theorem dX3_readSpecies_2 : decode cX3_readSpecies 2 = .ok (.putfield 137, 3) := dk_181 0 137 (dk_at dksX3_readSpecies_0 2 rfl rfl)
theorem dX3_readSpecies_5 : decode cX3_readSpecies 5 = .ok (.aload_n 0, 1) := dk_42 (dk_at dksX3_readSpecies_0 5 rfl rfl)
theorem dX3_readSpecies_6 : decode cX3_readSpecies 6 = .ok (.aload_n 0, 1) := dk_42 (dk_at dksX3_readSpecies_0 6 rfl rfl)
theorem dX3_readSpecies_7 : decode cX3_readSpecies 7 = .ok (.getfield 13, 3) := dk_180 0 13 (dk_at dksX3_readSpecies_0 7 rfl rfl)
theorem dX3_readSpecies_10 : decode cX3_readSpecies 10 = .ok (.iconst 0, 1) := dk_3 (dk_at dksX3_readSpecies_0 10 rfl rfl)
theorem dX3_readSpecies_11 : decode cX3_readSpecies 11 = .ok (.iaload, 1) := dk_46 (dk_at dksX3_readSpecies_0 11 rfl rfl)
theorem dX3_readSpecies_12 : decode cX3_readSpecies 12 = .ok (.iconst 4, 1) := dk_7 (dk_at dksX3_readSpecies_0 12 rfl rfl)
theorem dX3_readSpecies_13 : decode cX3_readSpecies 13 = .ok (.if_icmp .ge 7, 3) := dk_162 0 7 (dk_at dksX3_readSpecies_0 13 rfl rfl)
theorem dX3_readSpecies_16 : decode cX3_readSpecies 16 = .ok (.iconst 1, 1) := dk_4 (dk_at dksX3_readSpecies_0 16 rfl rfl)
theorem dX3_readSpecies_17 : decode cX3_readSpecies 17 = .ok (.goto 4, 3) := dk_167 0 4 (dk_at dksX3_readSpecies_0 17 rfl rfl)
theorem dX3_readSpecies_20 : decode cX3_readSpecies 20 = .ok (.iconst 0, 1) := dk_3 (dk_at dksX3_readSpecies_0 20 rfl rfl)
theorem dX3_readSpecies_21 : decode cX3_readSpecies 21 = .ok (.iconst 5, 1) := dk_8 (dk_at dksX3_readSpecies_0 21 rfl rfl)
theorem dX3_readSpecies_22 : decode cX3_readSpecies 22 = .ok (.invokevirtual 163, 3) := dk_182 0 163 (dk_at dksX3_readSpecies_1 0 rfl rfl)
theorem dX3_readSpecies_25 : decode cX3_readSpecies 25 = .ok (.aload_n 0, 1) := dk_42 (dk_at dksX3_readSpecies_1 3 rfl rfl)
theorem dX3_readSpecies_26 : decode cX3_readSpecies 26 = .ok (.invokevirtual 129, 3) := dk_182 0 129 (dk_at dksX3_readSpecies_1 4 rfl rfl)
theorem dX3_readSpecies_29 : decode cX3_readSpecies 29 = .ok (.ifCond .eq 4, 3) := dk_153 0 4 (dk_at dksX3_readSpecies_1 7 rfl rfl)
theorem dX3_readSpecies_32 : decode cX3_readSpecies 32 = .ok (.return_, 1) := dk_177 (dk_at dksX3_readSpecies_1 10 rfl rfl)
theorem dX3_readSpecies_33 : decode cX3_readSpecies 33 = .ok (.aload_n 0, 1) := dk_42 (dk_at dksX3_readSpecies_1 11 rfl rfl)
theorem dX3_readSpecies_34 : decode cX3_readSpecies 34 = .ok (.invokevirtual 173, 3) := dk_182 0 173 (dk_at dksX3_readSpecies_1 12 rfl rfl)
theorem dX3_readSpecies_37 : decode cX3_readSpecies 37 = .ok (.istore_n 2, 1) := dk_61 (dk_at dksX3_readSpecies_1 15 rfl rfl)
theorem dX3_readSpecies_38 : decode cX3_readSpecies 38 = .ok (.aload_n 0, 1) := dk_42 (dk_at dksX3_readSpecies_1 16 rfl rfl)
theorem dX3_readSpecies_39 : decode cX3_readSpecies 39 = .ok (.aload_n 0, 1) := dk_42 (dk_at dksX3_readSpecies_1 17 rfl rfl)
theorem dX3_readSpecies_40 : decode cX3_readSpecies 40 = .ok (.iload_n 2, 1) := dk_28 (dk_at dksX3_readSpecies_1 18 rfl rfl)
theorem dX3_readSpecies_41 : decode cX3_readSpecies 41 = .ok (.invokevirtual 176, 3) := dk_182 0 176 (dk_at dksX3_readSpecies_1 19 rfl rfl)
theorem dX3_readSpecies_44 : decode cX3_readSpecies 44 = .ok (.iconst (-1), 1) := dk_2 (dk_at dksX3_readSpecies_1 22 rfl rfl)
theorem dX3_readSpecies_45 : decode cX3_readSpecies 45 = .ok (.if_icmp .ne 7, 3) := dk_160 0 7 (dk_at dksX3_readSpecies_2 0 rfl rfl)
theorem dX3_readSpecies_48 : decode cX3_readSpecies 48 = .ok (.iconst 1, 1) := dk_4 (dk_at dksX3_readSpecies_2 3 rfl rfl)
theorem dX3_readSpecies_49 : decode cX3_readSpecies 49 = .ok (.goto 4, 3) := dk_167 0 4 (dk_at dksX3_readSpecies_2 4 rfl rfl)
theorem dX3_readSpecies_52 : decode cX3_readSpecies 52 = .ok (.iconst 0, 1) := dk_3 (dk_at dksX3_readSpecies_2 7 rfl rfl)
theorem dX3_readSpecies_53 : decode cX3_readSpecies 53 = .ok (.iconst 3, 1) := dk_6 (dk_at dksX3_readSpecies_2 8 rfl rfl)
theorem dX3_readSpecies_54 : decode cX3_readSpecies 54 = .ok (.invokevirtual 163, 3) := dk_182 0 163 (dk_at dksX3_readSpecies_2 9 rfl rfl)
theorem dX3_readSpecies_57 : decode cX3_readSpecies 57 = .ok (.aload_n 0, 1) := dk_42 (dk_at dksX3_readSpecies_2 12 rfl rfl)
theorem dX3_readSpecies_58 : decode cX3_readSpecies 58 = .ok (.invokevirtual 129, 3) := dk_182 0 129 (dk_at dksX3_readSpecies_2 13 rfl rfl)
theorem dX3_readSpecies_61 : decode cX3_readSpecies 61 = .ok (.ifCond .eq 4, 3) := dk_153 0 4 (dk_at dksX3_readSpecies_2 16 rfl rfl)
theorem dX3_readSpecies_64 : decode cX3_readSpecies 64 = .ok (.return_, 1) := dk_177 (dk_at dksX3_readSpecies_2 19 rfl rfl)
theorem dX3_readSpecies_65 : decode cX3_readSpecies 65 = .ok (.aload_n 0, 1) := dk_42 (dk_at dksX3_readSpecies_2 20 rfl rfl)
theorem dX3_readSpecies_66 : decode cX3_readSpecies 66 = .ok (.dup, 1) := dk_89 (dk_at dksX3_readSpecies_2 21 rfl rfl)
theorem dX3_readSpecies_67 : decode cX3_readSpecies 67 = .ok (.getfield 123, 3) := dk_180 0 123 (dk_at dksX3_readSpecies_3 0 rfl rfl)
theorem dX3_readSpecies_70 : decode cX3_readSpecies 70 = .ok (.aload_n 0, 1) := dk_42 (dk_at dksX3_readSpecies_3 3 rfl rfl)
theorem dX3_readSpecies_71 : decode cX3_readSpecies 71 = .ok (.invokevirtual 146, 3) := dk_182 0 146 (dk_at dksX3_readSpecies_3 4 rfl rfl)
theorem dX3_readSpecies_74 : decode cX3_readSpecies 74 = .ok (.iadd, 1) := dk_96 (dk_at dksX3_readSpecies_3 7 rfl rfl)
theorem dX3_readSpecies_75 : decode cX3_readSpecies 75 = .ok (.putfield 123, 3) := dk_181 0 123 (dk_at dksX3_readSpecies_3 8 rfl rfl)
theorem dX3_readSpecies_78 : decode cX3_readSpecies 78 = .ok (.aload_n 0, 1) := dk_42 (dk_at dksX3_readSpecies_3 11 rfl rfl)
theorem dX3_readSpecies_79 : decode cX3_readSpecies 79 = .ok (.iconst 1, 1) := dk_4 (dk_at dksX3_readSpecies_3 12 rfl rfl)
theorem dX3_readSpecies_80 : decode cX3_readSpecies 80 = .ok (.bipush 12, 2) := dk_16 12 (dk_at dksX3_readSpecies_3 13 rfl rfl)
theorem dX3_readSpecies_82 : decode cX3_readSpecies 82 = .ok (.invokevirtual 179, 3) := dk_182 0 179 (dk_at dksX3_readSpecies_3 15 rfl rfl)
theorem dX3_readSpecies_85 : decode cX3_readSpecies 85 = .ok (.istore_n 3, 1) := dk_62 (dk_at dksX3_readSpecies_3 18 rfl rfl)
theorem dX3_readSpecies_86 : decode cX3_readSpecies 86 = .ok (.aload_n 0, 1) := dk_42 (dk_at dksX3_readSpecies_3 19 rfl rfl)
theorem dX3_readSpecies_87 : decode cX3_readSpecies 87 = .ok (.invokevirtual 129, 3) := dk_182 0 129 (dk_at dksX3_readSpecies_3 20 rfl rfl)
theorem dX3_readSpecies_90 : decode cX3_readSpecies 90 = .ok (.ifCond .eq 4, 3) := dk_153 0 4 (dk_at dksX3_readSpecies_4 0 rfl rfl)
theorem dX3_readSpecies_93 : decode cX3_readSpecies 93 = .ok (.return_, 1) := dk_177 (dk_at dksX3_readSpecies_4 3 rfl rfl)
theorem dX3_readSpecies_94 : decode cX3_readSpecies 94 = .ok (.aload_n 0, 1) := dk_42 (dk_at dksX3_readSpecies_4 4 rfl rfl)
theorem dX3_readSpecies_95 : decode cX3_readSpecies 95 = .ok (.getfield 13, 3) := dk_180 0 13 (dk_at dksX3_readSpecies_4 5 rfl rfl)
theorem dX3_readSpecies_98 : decode cX3_readSpecies 98 = .ok (.iconst 0, 1) := dk_3 (dk_at dksX3_readSpecies_4 8 rfl rfl)
theorem dX3_readSpecies_99 : decode cX3_readSpecies 99 = .ok (.iaload, 1) := dk_46 (dk_at dksX3_readSpecies_4 9 rfl rfl)
theorem dX3_readSpecies_100 : decode cX3_readSpecies 100 = .ok (.istore 4, 2) := dk_54 4 (dk_at dksX3_readSpecies_4 10 rfl rfl)
theorem dX3_readSpecies_102 : decode cX3_readSpecies 102 = .ok (.aload_n 0, 1) := dk_42 (dk_at dksX3_readSpecies_4 12 rfl rfl)
theorem dX3_readSpecies_103 : decode cX3_readSpecies 103 = .ok (.getfield 13, 3) := dk_180 0 13 (dk_at dksX3_readSpecies_4 13 rfl rfl)
theorem dX3_readSpecies_106 : decode cX3_readSpecies 106 = .ok (.iload 4, 2) := dk_21 4 (dk_at dksX3_readSpecies_4 16 rfl rfl)
theorem dX3_readSpecies_108 : decode cX3_readSpecies 108 = .ok (.iconst 0, 1) := dk_3 (dk_at dksX3_readSpecies_4 18 rfl rfl)
theorem dX3_readSpecies_109 : decode cX3_readSpecies 109 = .ok (.invokestatic 63, 3) := dk_184 0 63 (dk_at dksX3_readSpecies_4 19 rfl rfl)
theorem dX3_readSpecies_112 : decode cX3_readSpecies 112 = .ok (.iload_n 2, 1) := dk_28 (dk_at dksX3_readSpecies_4 22 rfl rfl)
theorem dX3_readSpecies_113 : decode cX3_readSpecies 113 = .ok (.iastore, 1) := dk_79 (dk_at dksX3_readSpecies_4 23 rfl rfl)
theorem dX3_readSpecies_114 : decode cX3_readSpecies 114 = .ok (.aload_n 0, 1) := dk_42 (dk_at dksX3_readSpecies_5 0 rfl rfl)
theorem dX3_readSpecies_115 : decode cX3_readSpecies 115 = .ok (.getfield 13, 3) := dk_180 0 13 (dk_at dksX3_readSpecies_5 1 rfl rfl)
theorem dX3_readSpecies_118 : decode cX3_readSpecies 118 = .ok (.iload 4, 2) := dk_21 4 (dk_at dksX3_readSpecies_5 4 rfl rfl)
theorem dX3_readSpecies_120 : decode cX3_readSpecies 120 = .ok (.iconst 1, 1) := dk_4 (dk_at dksX3_readSpecies_5 6 rfl rfl)
theorem dX3_readSpecies_121 : decode cX3_readSpecies 121 = .ok (.invokestatic 63, 3) := dk_184 0 63 (dk_at dksX3_readSpecies_5 7 rfl rfl)
theorem dX3_readSpecies_124 : decode cX3_readSpecies 124 = .ok (.iload_n 3, 1) := dk_29 (dk_at dksX3_readSpecies_5 10 rfl rfl)
theorem dX3_readSpecies_125 : decode cX3_readSpecies 125 = .ok (.iastore, 1) := dk_79 (dk_at dksX3_readSpecies_5 11 rfl rfl)
theorem dX3_readSpecies_126 : decode cX3_readSpecies 126 = .ok (.aload_n 0, 1) := dk_42 (dk_at dksX3_readSpecies_5 12 rfl rfl)
theorem dX3_readSpecies_127 : decode cX3_readSpecies 127 = .ok (.getfield 13, 3) := dk_180 0 13 (dk_at dksX3_readSpecies_5 13 rfl rfl)
theorem dX3_readSpecies_130 : decode cX3_readSpecies 130 = .ok (.iload 4, 2) := dk_21 4 (dk_at dksX3_readSpecies_5 16 rfl rfl)
theorem dX3_readSpecies_132 : decode cX3_readSpecies 132 = .ok (.iconst 2, 1) := dk_5 (dk_at dksX3_readSpecies_5 18 rfl rfl)
theorem dX3_readSpecies_133 : decode cX3_readSpecies 133 = .ok (.invokestatic 63, 3) := dk_184 0 63 (dk_at dksX3_readSpecies_5 19 rfl rfl)
theorem dX3_readSpecies_136 : decode cX3_readSpecies 136 = .ok (.iconst 1, 1) := dk_4 (dk_at dksX3_readSpecies_5 22 rfl rfl)
theorem dX3_readSpecies_137 : decode cX3_readSpecies 137 = .ok (.iastore, 1) := dk_79 (dk_at dksX3_readSpecies_5 23 rfl rfl)
theorem dX3_readSpecies_138 : decode cX3_readSpecies 138 = .ok (.iconst 0, 1) := dk_3 (dk_at dksX3_readSpecies_6 0 rfl rfl)
theorem dX3_readSpecies_139 : decode cX3_readSpecies 139 = .ok (.istore 5, 2) := dk_54 5 (dk_at dksX3_readSpecies_6 1 rfl rfl)
theorem dX3_readSpecies_141 : decode cX3_readSpecies 141 = .ok (.iload 5, 2) := dk_21 5 (dk_at dksX3_readSpecies_6 3 rfl rfl)
theorem dX3_readSpecies_143 : decode cX3_readSpecies 143 = .ok (.bipush 13, 2) := dk_16 13 (dk_at dksX3_readSpecies_6 5 rfl rfl)
theorem dX3_readSpecies_145 : decode cX3_readSpecies 145 = .ok (.if_icmp .ge 27, 3) := dk_162 0 27 (dk_at dksX3_readSpecies_6 7 rfl rfl)
theorem dX3_readSpecies_148 : decode cX3_readSpecies 148 = .ok (.aload_n 0, 1) := dk_42 (dk_at dksX3_readSpecies_6 10 rfl rfl)
theorem dX3_readSpecies_149 : decode cX3_readSpecies 149 = .ok (.getfield 13, 3) := dk_180 0 13 (dk_at dksX3_readSpecies_6 11 rfl rfl)
theorem dX3_readSpecies_152 : decode cX3_readSpecies 152 = .ok (.iload 4, 2) := dk_21 4 (dk_at dksX3_readSpecies_6 14 rfl rfl)
theorem dX3_readSpecies_154 : decode cX3_readSpecies 154 = .ok (.bipush 13, 2) := dk_16 13 (dk_at dksX3_readSpecies_6 16 rfl rfl)
theorem dX3_readSpecies_156 : decode cX3_readSpecies 156 = .ok (.iload 5, 2) := dk_21 5 (dk_at dksX3_readSpecies_6 18 rfl rfl)
theorem dX3_readSpecies_158 : decode cX3_readSpecies 158 = .ok (.iadd, 1) := dk_96 (dk_at dksX3_readSpecies_6 20 rfl rfl)
theorem dX3_readSpecies_159 : decode cX3_readSpecies 159 = .ok (.invokestatic 63, 3) := dk_184 0 63 (dk_at dksX3_readSpecies_6 21 rfl rfl)
theorem dX3_readSpecies_162 : decode cX3_readSpecies 162 = .ok (.sipush 500, 3) := dk_17 1 244 (dk_at dksX3_readSpecies_7 0 rfl rfl)
theorem dX3_readSpecies_165 : decode cX3_readSpecies 165 = .ok (.iastore, 1) := dk_79 (dk_at dksX3_readSpecies_7 3 rfl rfl)
theorem dX3_readSpecies_166 : decode cX3_readSpecies 166 = .ok (.iinc 5 1, 3) := dk_132 5 1 (dk_at dksX3_readSpecies_7 4 rfl rfl)
theorem dX3_readSpecies_169 : decode cX3_readSpecies 169 = .ok (.goto (-28), 3) := dk_167 255 228 (dk_at dksX3_readSpecies_7 7 rfl rfl)
theorem dX3_readSpecies_172 : decode cX3_readSpecies 172 = .ok (.aload_n 0, 1) := dk_42 (dk_at dksX3_readSpecies_7 10 rfl rfl)
theorem dX3_readSpecies_173 : decode cX3_readSpecies 173 = .ok (.getfield 30, 3) := dk_180 0 30 (dk_at dksX3_readSpecies_7 11 rfl rfl)
theorem dX3_readSpecies_176 : decode cX3_readSpecies 176 = .ok (.sipush 1401, 3) := dk_17 5 121 (dk_at dksX3_readSpecies_7 14 rfl rfl)
theorem dX3_readSpecies_179 : decode cX3_readSpecies 179 = .ok (.iload 4, 2) := dk_21 4 (dk_at dksX3_readSpecies_7 17 rfl rfl)
theorem dX3_readSpecies_181 : decode cX3_readSpecies 181 = .ok (.imul, 1) := dk_104 (dk_at dksX3_readSpecies_7 19 rfl rfl)
theorem dX3_readSpecies_182 : decode cX3_readSpecies 182 = .ok (.iconst 0, 1) := dk_3 (dk_at dksX3_readSpecies_7 20 rfl rfl)
theorem dX3_readSpecies_183 : decode cX3_readSpecies 183 = .ok (.iastore, 1) := dk_79 (dk_at dksX3_readSpecies_7 21 rfl rfl)
theorem dX3_readSpecies_184 : decode cX3_readSpecies 184 = .ok (.aload_n 0, 1) := dk_42 (dk_at dksX3_readSpecies_7 22 rfl rfl)
theorem dX3_readSpecies_185 : decode cX3_readSpecies 185 = .ok (.getfield 13, 3) := dk_180 0 13 (dk_at dksX3_readSpecies_8 0 rfl rfl)
theorem dX3_readSpecies_188 : decode cX3_readSpecies 188 = .ok (.iconst 0, 1) := dk_3 (dk_at dksX3_readSpecies_8 3 rfl rfl)
theorem dX3_readSpecies_189 : decode cX3_readSpecies 189 = .ok (.dup2, 1) := dk_92 (dk_at dksX3_readSpecies_8 4 rfl rfl)
theorem dX3_readSpecies_190 : decode cX3_readSpecies 190 = .ok (.iaload, 1) := dk_46 (dk_at dksX3_readSpecies_8 5 rfl rfl)
theorem dX3_readSpecies_191 : decode cX3_readSpecies 191 = .ok (.iconst 1, 1) := dk_4 (dk_at dksX3_readSpecies_8 6 rfl rfl)
theorem dX3_readSpecies_192 : decode cX3_readSpecies 192 = .ok (.iadd, 1) := dk_96 (dk_at dksX3_readSpecies_8 7 rfl rfl)
theorem dX3_readSpecies_193 : decode cX3_readSpecies 193 = .ok (.iastore, 1) := dk_79 (dk_at dksX3_readSpecies_8 8 rfl rfl)
theorem dX3_readSpecies_194 : decode cX3_readSpecies 194 = .ok (.return_, 1) := dk_177 (dk_at dksX3_readSpecies_8 9 rfl rfl)
abbrev cX3_readLine : ByteArray := prog_39_method_49_code
def yX3_readLine : MethodName := ⟨RX3, "readLine", "()V"⟩
def dkwX3_readLine_2 : List UInt8 := [42, 42, 180, 0, 13, 3, 46, 4, 100, 182, 0, 253, 42, 16, 59, 182, 0, 198, 42, 182, 0, 143, 177]
abbrev dktX3_readLine_2 : List UInt8 := dkwX3_readLine_2 ++ []
def dkwX3_readLine_1 : List UInt8 := [182, 0, 179, 79, 167, 0, 32, 42, 18, 248, 182, 0, 212, 153, 0, 11, 42, 27, 182, 0, 250, 167, 0, 15]
abbrev dktX3_readLine_1 : List UInt8 := dkwX3_readLine_1 ++ dktX3_readLine_2
def dkwX3_readLine_0 : List UInt8 := [42, 180, 0, 137, 60, 42, 18, 226, 182, 0, 212, 153, 0, 20, 42, 180, 0, 13, 4, 42, 3, 17, 39, 15]
abbrev dktX3_readLine_0 : List UInt8 := dkwX3_readLine_0 ++ dktX3_readLine_1
theorem dksX3_readLine_0 : cX3_readLine.data.toList.drop 0 = dktX3_readLine_0 := by decide +kernel
theorem dksX3_readLine_1 : cX3_readLine.data.toList.drop 24 = dktX3_readLine_1 := dk_seg dksX3_readLine_0 24 rfl rfl
theorem dksX3_readLine_2 : cX3_readLine.data.toList.drop 48 = dktX3_readLine_2 := dk_seg dksX3_readLine_1 24 rfl rfl
theorem dX3_readLine_0 : decode cX3_readLine 0 = .ok (.aload_n 0, 1) := dk_42 (dk_at dksX3_readLine_0 0 rfl rfl)
theorem dX3_readLine_1 : decode cX3_readLine 1 = .ok (.getfield 137, 3) := dk_180 0 137 (dk_at dksX3_readLine_0 1 rfl rfl)
theorem dX3_readLine_4 : decode cX3_readLine 4 = .ok (.istore_n 1, 1) := dk_60 (dk_at dksX3_readLine_0 4 rfl rfl)
theorem dX3_readLine_5 : decode cX3_readLine 5 = .ok (.aload_n 0, 1) := dk_42 (dk_at dksX3_readLine_0 5 rfl rfl)
theorem dX3_readLine_6 : decode cX3_readLine 6 = .ok (.ldc 226, 2) := dk_18 226 (dk_at dksX3_readLine_0 6 rfl rfl)
theorem dX3_readLine_8 : decode cX3_readLine 8 = .ok (.invokevirtual 212, 3) := dk_182 0 212 (dk_at dksX3_readLine_0 8 rfl rfl)
theorem dX3_readLine_11 : decode cX3_readLine 11 = .ok (.ifCond .eq 20, 3) := dk_153 0 20 (dk_at dksX3_readLine_0 11 rfl rfl)
theorem dX3_readLine_14 : decode cX3_readLine 14 = .ok (.aload_n 0, 1) := dk_42 (dk_at dksX3_readLine_0 14 rfl rfl)
theorem dX3_readLine_15 : decode cX3_readLine 15 = .ok (.getfield 13, 3) := dk_180 0 13 (dk_at dksX3_readLine_0 15 rfl rfl)
theorem dX3_readLine_18 : decode cX3_readLine 18 = .ok (.iconst 1, 1) := dk_4 (dk_at dksX3_readLine_0 18 rfl rfl)
theorem dX3_readLine_19 : decode cX3_readLine 19 = .ok (.aload_n 0, 1) := dk_42 (dk_at dksX3_readLine_0 19 rfl rfl)
theorem dX3_readLine_20 : decode cX3_readLine 20 = .ok (.iconst 0, 1) := dk_3 (dk_at dksX3_readLine_0 20 rfl rfl)
theorem dX3_readLine_21 : decode cX3_readLine 21 = .ok (.sipush 9999, 3) := dk_17 39 15 (dk_at dksX3_readLine_0 21 rfl rfl)
theorem dX3_readLine_24 : decode cX3_readLine 24 = .ok (.invokevirtual 179, 3) := dk_182 0 179 (dk_at dksX3_readLine_1 0 rfl rfl)
theorem dX3_readLine_27 : decode cX3_readLine 27 = .ok (.iastore, 1) := dk_79 (dk_at dksX3_readLine_1 3 rfl rfl)
theorem dX3_readLine_28 : decode cX3_readLine 28 = .ok (.goto 32, 3) := dk_167 0 32 (dk_at dksX3_readLine_1 4 rfl rfl)
theorem dX3_readLine_31 : decode cX3_readLine 31 = .ok (.aload_n 0, 1) := dk_42 (dk_at dksX3_readLine_1 7 rfl rfl)
theorem dX3_readLine_32 : decode cX3_readLine 32 = .ok (.ldc 248, 2) := dk_18 248 (dk_at dksX3_readLine_1 8 rfl rfl)
theorem dX3_readLine_34 : decode cX3_readLine 34 = .ok (.invokevirtual 212, 3) := dk_182 0 212 (dk_at dksX3_readLine_1 10 rfl rfl)
theorem dX3_readLine_37 : decode cX3_readLine 37 = .ok (.ifCond .eq 11, 3) := dk_153 0 11 (dk_at dksX3_readLine_1 13 rfl rfl)
theorem dX3_readLine_40 : decode cX3_readLine 40 = .ok (.aload_n 0, 1) := dk_42 (dk_at dksX3_readLine_1 16 rfl rfl)
theorem dX3_readLine_41 : decode cX3_readLine 41 = .ok (.iload_n 1, 1) := dk_27 (dk_at dksX3_readLine_1 17 rfl rfl)
theorem dX3_readLine_42 : decode cX3_readLine 42 = .ok (.invokevirtual 250, 3) := dk_182 0 250 (dk_at dksX3_readLine_1 18 rfl rfl)
theorem dX3_readLine_45 : decode cX3_readLine 45 = .ok (.goto 15, 3) := dk_167 0 15 (dk_at dksX3_readLine_1 21 rfl rfl)
theorem dX3_readLine_48 : decode cX3_readLine 48 = .ok (.aload_n 0, 1) := dk_42 (dk_at dksX3_readLine_2 0 rfl rfl)
theorem dX3_readLine_49 : decode cX3_readLine 49 = .ok (.aload_n 0, 1) := dk_42 (dk_at dksX3_readLine_2 1 rfl rfl)
theorem dX3_readLine_50 : decode cX3_readLine 50 = .ok (.getfield 13, 3) := dk_180 0 13 (dk_at dksX3_readLine_2 2 rfl rfl)
theorem dX3_readLine_53 : decode cX3_readLine 53 = .ok (.iconst 0, 1) := dk_3 (dk_at dksX3_readLine_2 5 rfl rfl)
theorem dX3_readLine_54 : decode cX3_readLine 54 = .ok (.iaload, 1) := dk_46 (dk_at dksX3_readLine_2 6 rfl rfl)
theorem dX3_readLine_55 : decode cX3_readLine 55 = .ok (.iconst 1, 1) := dk_4 (dk_at dksX3_readLine_2 7 rfl rfl)
theorem dX3_readLine_56 : decode cX3_readLine 56 = .ok (.isub, 1) := dk_100 (dk_at dksX3_readLine_2 8 rfl rfl)
theorem dX3_readLine_57 : decode cX3_readLine 57 = .ok (.invokevirtual 253, 3) := dk_182 0 253 (dk_at dksX3_readLine_2 9 rfl rfl)
theorem dX3_readLine_60 : decode cX3_readLine 60 = .ok (.aload_n 0, 1) := dk_42 (dk_at dksX3_readLine_2 12 rfl rfl)
theorem dX3_readLine_61 : decode cX3_readLine 61 = .ok (.bipush 59, 2) := dk_16 59 (dk_at dksX3_readLine_2 13 rfl rfl)
theorem dX3_readLine_63 : decode cX3_readLine 63 = .ok (.invokevirtual 198, 3) := dk_182 0 198 (dk_at dksX3_readLine_2 15 rfl rfl)
theorem dX3_readLine_66 : decode cX3_readLine 66 = .ok (.aload_n 0, 1) := dk_42 (dk_at dksX3_readLine_2 18 rfl rfl)
theorem dX3_readLine_67 : decode cX3_readLine 67 = .ok (.invokevirtual 143, 3) := dk_182 0 143 (dk_at dksX3_readLine_2 19 rfl rfl)
theorem dX3_readLine_70 : decode cX3_readLine 70 = .ok (.return_, 1) := dk_177 (dk_at dksX3_readLine_2 22 rfl rfl)
abbrev cX3_putsAside : ByteArray := prog_39_method_10_code
def yX3_putsAside : MethodName := ⟨RX3, "putsAside", "()V"⟩
def dkwX3_putsAside_0 : List UInt8 := [42, 42, 180, 0, 13, 3, 42, 180, 0, 17, 3, 182, 0, 59, 177]
abbrev dktX3_putsAside_0 : List UInt8 := dkwX3_putsAside_0 ++ []
theorem dksX3_putsAside_0 : cX3_putsAside.data.toList.drop 0 = dktX3_putsAside_0 := by decide +kernel
theorem dX3_putsAside_0 : decode cX3_putsAside 0 = .ok (.aload_n 0, 1) := dk_42 (dk_at dksX3_putsAside_0 0 rfl rfl)
theorem dX3_putsAside_1 : decode cX3_putsAside 1 = .ok (.aload_n 0, 1) := dk_42 (dk_at dksX3_putsAside_0 1 rfl rfl)
theorem dX3_putsAside_2 : decode cX3_putsAside 2 = .ok (.getfield 13, 3) := dk_180 0 13 (dk_at dksX3_putsAside_0 2 rfl rfl)
theorem dX3_putsAside_5 : decode cX3_putsAside 5 = .ok (.iconst 0, 1) := dk_3 (dk_at dksX3_putsAside_0 5 rfl rfl)
theorem dX3_putsAside_6 : decode cX3_putsAside 6 = .ok (.aload_n 0, 1) := dk_42 (dk_at dksX3_putsAside_0 6 rfl rfl)
theorem dX3_putsAside_7 : decode cX3_putsAside 7 = .ok (.getfield 17, 3) := dk_180 0 17 (dk_at dksX3_putsAside_0 7 rfl rfl)
theorem dX3_putsAside_10 : decode cX3_putsAside 10 = .ok (.iconst 0, 1) := dk_3 (dk_at dksX3_putsAside_0 10 rfl rfl)
theorem dX3_putsAside_11 : decode cX3_putsAside 11 = .ok (.invokevirtual 59, 3) := dk_182 0 59 (dk_at dksX3_putsAside_0 11 rfl rfl)
theorem dX3_putsAside_14 : decode cX3_putsAside 14 = .ok (.return_, 1) := dk_177 (dk_at dksX3_putsAside_0 14 rfl rfl)
abbrev cX3_load : ByteArray := prog_39_method_50_code
def yX3_load : MethodName := ⟨RX3, "load", "()I"⟩
def dkwX3_load_7 : List UInt8 := [180, 0, 13, 3, 46, 172]
abbrev dktX3_load_7 : List UInt8 := dkwX3_load_7 ++ []
def dkwX3_load_6 : List UInt8 := [3, 61, 28, 42, 180, 0, 13, 3, 46, 162, 0, 14, 42, 28, 182, 1, 13, 132, 2, 1, 167, 255, 238, 42]
abbrev dktX3_load_6 : List UInt8 := dkwX3_load_6 ++ dktX3_load_7
def dkwX3_load_5 : List UInt8 := [17, 21, 228, 162, 0, 21, 42, 180, 0, 27, 28, 42, 180, 0, 30, 28, 46, 79, 132, 2, 1, 167, 255, 234]
abbrev dktX3_load_5 : List UInt8 := dkwX3_load_5 ++ dktX3_load_6
def dkwX3_load_4 : List UInt8 := [182, 0, 129, 4, 182, 1, 6, 153, 0, 14, 42, 182, 1, 10, 42, 27, 181, 0, 56, 3, 172, 3, 61, 28]
abbrev dktX3_load_4 : List UInt8 := dkwX3_load_4 ++ dktX3_load_5
def dkwX3_load_3 : List UInt8 := [182, 1, 3, 167, 255, 234, 42, 42, 180, 0, 120, 181, 0, 44, 42, 42, 180, 0, 140, 181, 0, 117, 42, 42]
abbrev dktX3_load_3 : List UInt8 := dkwX3_load_3 ++ dktX3_load_4
def dkwX3_load_2 : List UInt8 := [182, 0, 143, 42, 182, 0, 129, 154, 0, 21, 42, 180, 0, 123, 42, 180, 0, 126, 162, 0, 10, 42]
abbrev dktX3_load_2 : List UInt8 := dkwX3_load_2 ++ dktX3_load_3
def dkwX3_load_1 : List UInt8 := [2, 181, 0, 120, 42, 3, 181, 0, 140, 42, 182, 1, 0, 42, 180, 0, 56, 60, 42, 182, 0, 53, 42]
abbrev dktX3_load_1 : List UInt8 := dkwX3_load_1 ++ dktX3_load_2
def dkwX3_load_0 : List UInt8 := [42, 3, 181, 0, 3, 42, 42, 180, 0, 114, 181, 0, 126, 42, 3, 181, 0, 114, 42, 3, 181, 0, 123, 42]
abbrev dktX3_load_0 : List UInt8 := dkwX3_load_0 ++ dktX3_load_1
theorem dksX3_load_0 : cX3_load.data.toList.drop 0 = dktX3_load_0 := by decide +kernel
theorem dksX3_load_1 : cX3_load.data.toList.drop 24 = dktX3_load_1 := dk_seg dksX3_load_0 24 rfl rfl
theorem dksX3_load_2 : cX3_load.data.toList.drop 47 = dktX3_load_2 := dk_seg dksX3_load_1 23 rfl rfl
theorem dksX3_load_3 : cX3_load.data.toList.drop 69 = dktX3_load_3 := dk_seg dksX3_load_2 22 rfl rfl
theorem dksX3_load_4 : cX3_load.data.toList.drop 93 = dktX3_load_4 := dk_seg dksX3_load_3 24 rfl rfl
theorem dksX3_load_5 : cX3_load.data.toList.drop 117 = dktX3_load_5 := dk_seg dksX3_load_4 24 rfl rfl
theorem dksX3_load_6 : cX3_load.data.toList.drop 141 = dktX3_load_6 := dk_seg dksX3_load_5 24 rfl rfl
theorem dksX3_load_7 : cX3_load.data.toList.drop 165 = dktX3_load_7 := dk_seg dksX3_load_6 24 rfl rfl
theorem dX3_load_0 : decode cX3_load 0 = .ok (.aload_n 0, 1) := dk_42 (dk_at dksX3_load_0 0 rfl rfl)
theorem dX3_load_1 : decode cX3_load 1 = .ok (.iconst 0, 1) := dk_3 (dk_at dksX3_load_0 1 rfl rfl)
theorem dX3_load_2 : decode cX3_load 2 = .ok (.putfield 3, 3) := dk_181 0 3 (dk_at dksX3_load_0 2 rfl rfl)
theorem dX3_load_5 : decode cX3_load 5 = .ok (.aload_n 0, 1) := dk_42 (dk_at dksX3_load_0 5 rfl rfl)
theorem dX3_load_6 : decode cX3_load 6 = .ok (.aload_n 0, 1) := dk_42 (dk_at dksX3_load_0 6 rfl rfl)
theorem dX3_load_7 : decode cX3_load 7 = .ok (.getfield 114, 3) := dk_180 0 114 (dk_at dksX3_load_0 7 rfl rfl)
theorem dX3_load_10 : decode cX3_load 10 = .ok (.putfield 126, 3) := dk_181 0 126 (dk_at dksX3_load_0 10 rfl rfl)
theorem dX3_load_13 : decode cX3_load 13 = .ok (.aload_n 0, 1) := dk_42 (dk_at dksX3_load_0 13 rfl rfl)
theorem dX3_load_14 : decode cX3_load 14 = .ok (.iconst 0, 1) := dk_3 (dk_at dksX3_load_0 14 rfl rfl)
theorem dX3_load_15 : decode cX3_load 15 = .ok (.putfield 114, 3) := dk_181 0 114 (dk_at dksX3_load_0 15 rfl rfl)
theorem dX3_load_18 : decode cX3_load 18 = .ok (.aload_n 0, 1) := dk_42 (dk_at dksX3_load_0 18 rfl rfl)
theorem dX3_load_19 : decode cX3_load 19 = .ok (.iconst 0, 1) := dk_3 (dk_at dksX3_load_0 19 rfl rfl)
theorem dX3_load_20 : decode cX3_load 20 = .ok (.putfield 123, 3) := dk_181 0 123 (dk_at dksX3_load_0 20 rfl rfl)
theorem dX3_load_23 : decode cX3_load 23 = .ok (.aload_n 0, 1) := dk_42 (dk_at dksX3_load_0 23 rfl rfl)
theorem dX3_load_24 : decode cX3_load 24 = .ok (.iconst (-1), 1) := dk_2 (dk_at dksX3_load_1 0 rfl rfl)
theorem dX3_load_25 : decode cX3_load 25 = .ok (.putfield 120, 3) := dk_181 0 120 (dk_at dksX3_load_1 1 rfl rfl)
theorem dX3_load_28 : decode cX3_load 28 = .ok (.aload_n 0, 1) := dk_42 (dk_at dksX3_load_1 4 rfl rfl)
theorem dX3_load_29 : decode cX3_load 29 = .ok (.iconst 0, 1) := dk_3 (dk_at dksX3_load_1 5 rfl rfl)
theorem dX3_load_30 : decode cX3_load 30 = .ok (.putfield 140, 3) := dk_181 0 140 (dk_at dksX3_load_1 6 rfl rfl)
theorem dX3_load_33 : decode cX3_load 33 = .ok (.aload_n 0, 1) := dk_42 (dk_at dksX3_load_1 9 rfl rfl)
theorem dX3_load_34 : decode cX3_load 34 = .ok (.invokevirtual 256, 3) := dk_182 1 0 (dk_at dksX3_load_1 10 rfl rfl)
theorem dX3_load_37 : decode cX3_load 37 = .ok (.aload_n 0, 1) := dk_42 (dk_at dksX3_load_1 13 rfl rfl)
theorem dX3_load_38 : decode cX3_load 38 = .ok (.getfield 56, 3) := dk_180 0 56 (dk_at dksX3_load_1 14 rfl rfl)
theorem dX3_load_41 : decode cX3_load 41 = .ok (.istore_n 1, 1) := dk_60 (dk_at dksX3_load_1 17 rfl rfl)
theorem dX3_load_42 : decode cX3_load 42 = .ok (.aload_n 0, 1) := dk_42 (dk_at dksX3_load_1 18 rfl rfl)
theorem dX3_load_43 : decode cX3_load 43 = .ok (.invokevirtual 53, 3) := dk_182 0 53 (dk_at dksX3_load_1 19 rfl rfl)
theorem dX3_load_46 : decode cX3_load 46 = .ok (.aload_n 0, 1) := dk_42 (dk_at dksX3_load_1 22 rfl rfl)
theorem dX3_load_47 : decode cX3_load 47 = .ok (.invokevirtual 143, 3) := dk_182 0 143 (dk_at dksX3_load_2 0 rfl rfl)
theorem dX3_load_50 : decode cX3_load 50 = .ok (.aload_n 0, 1) := dk_42 (dk_at dksX3_load_2 3 rfl rfl)
theorem dX3_load_51 : decode cX3_load 51 = .ok (.invokevirtual 129, 3) := dk_182 0 129 (dk_at dksX3_load_2 4 rfl rfl)
theorem dX3_load_54 : decode cX3_load 54 = .ok (.ifCond .ne 21, 3) := dk_154 0 21 (dk_at dksX3_load_2 7 rfl rfl)
theorem dX3_load_57 : decode cX3_load 57 = .ok (.aload_n 0, 1) := dk_42 (dk_at dksX3_load_2 10 rfl rfl)
theorem dX3_load_58 : decode cX3_load 58 = .ok (.getfield 123, 3) := dk_180 0 123 (dk_at dksX3_load_2 11 rfl rfl)
theorem dX3_load_61 : decode cX3_load 61 = .ok (.aload_n 0, 1) := dk_42 (dk_at dksX3_load_2 14 rfl rfl)
theorem dX3_load_62 : decode cX3_load 62 = .ok (.getfield 126, 3) := dk_180 0 126 (dk_at dksX3_load_2 15 rfl rfl)
theorem dX3_load_65 : decode cX3_load 65 = .ok (.if_icmp .ge 10, 3) := dk_162 0 10 (dk_at dksX3_load_2 18 rfl rfl)
theorem dX3_load_68 : decode cX3_load 68 = .ok (.aload_n 0, 1) := dk_42 (dk_at dksX3_load_2 21 rfl rfl)
theorem dX3_load_69 : decode cX3_load 69 = .ok (.invokevirtual 259, 3) := dk_182 1 3 (dk_at dksX3_load_3 0 rfl rfl)
theorem dX3_load_72 : decode cX3_load 72 = .ok (.goto (-22), 3) := dk_167 255 234 (dk_at dksX3_load_3 3 rfl rfl)
theorem dX3_load_75 : decode cX3_load 75 = .ok (.aload_n 0, 1) := dk_42 (dk_at dksX3_load_3 6 rfl rfl)
theorem dX3_load_76 : decode cX3_load 76 = .ok (.aload_n 0, 1) := dk_42 (dk_at dksX3_load_3 7 rfl rfl)
theorem dX3_load_77 : decode cX3_load 77 = .ok (.getfield 120, 3) := dk_180 0 120 (dk_at dksX3_load_3 8 rfl rfl)
theorem dX3_load_80 : decode cX3_load 80 = .ok (.putfield 44, 3) := dk_181 0 44 (dk_at dksX3_load_3 11 rfl rfl)
theorem dX3_load_83 : decode cX3_load 83 = .ok (.aload_n 0, 1) := dk_42 (dk_at dksX3_load_3 14 rfl rfl)
theorem dX3_load_84 : decode cX3_load 84 = .ok (.aload_n 0, 1) := dk_42 (dk_at dksX3_load_3 15 rfl rfl)
theorem dX3_load_85 : decode cX3_load 85 = .ok (.getfield 140, 3) := dk_180 0 140 (dk_at dksX3_load_3 16 rfl rfl)
theorem dX3_load_88 : decode cX3_load 88 = .ok (.putfield 117, 3) := dk_181 0 117 (dk_at dksX3_load_3 19 rfl rfl)
theorem dX3_load_91 : decode cX3_load 91 = .ok (.aload_n 0, 1) := dk_42 (dk_at dksX3_load_3 22 rfl rfl)
theorem dX3_load_92 : decode cX3_load 92 = .ok (.aload_n 0, 1) := dk_42 (dk_at dksX3_load_3 23 rfl rfl)
theorem dX3_load_93 : decode cX3_load 93 = .ok (.invokevirtual 129, 3) := dk_182 0 129 (dk_at dksX3_load_4 0 rfl rfl)
theorem dX3_load_96 : decode cX3_load 96 = .ok (.iconst 1, 1) := dk_4 (dk_at dksX3_load_4 3 rfl rfl)
theorem dX3_load_97 : decode cX3_load 97 = .ok (.invokevirtual 262, 3) := dk_182 1 6 (dk_at dksX3_load_4 4 rfl rfl)
theorem dX3_load_100 : decode cX3_load 100 = .ok (.ifCond .eq 14, 3) := dk_153 0 14 (dk_at dksX3_load_4 7 rfl rfl)
theorem dX3_load_103 : decode cX3_load 103 = .ok (.aload_n 0, 1) := dk_42 (dk_at dksX3_load_4 10 rfl rfl)
theorem dX3_load_104 : decode cX3_load 104 = .ok (.invokevirtual 266, 3) := dk_182 1 10 (dk_at dksX3_load_4 11 rfl rfl)
theorem dX3_load_107 : decode cX3_load 107 = .ok (.aload_n 0, 1) := dk_42 (dk_at dksX3_load_4 14 rfl rfl)
theorem dX3_load_108 : decode cX3_load 108 = .ok (.iload_n 1, 1) := dk_27 (dk_at dksX3_load_4 15 rfl rfl)
theorem dX3_load_109 : decode cX3_load 109 = .ok (.putfield 56, 3) := dk_181 0 56 (dk_at dksX3_load_4 16 rfl rfl)
theorem dX3_load_112 : decode cX3_load 112 = .ok (.iconst 0, 1) := dk_3 (dk_at dksX3_load_4 19 rfl rfl)
theorem dX3_load_113 : decode cX3_load 113 = .ok (.ireturn, 1) := dk_172 (dk_at dksX3_load_4 20 rfl rfl)
theorem dX3_load_114 : decode cX3_load 114 = .ok (.iconst 0, 1) := dk_3 (dk_at dksX3_load_4 21 rfl rfl)
theorem dX3_load_115 : decode cX3_load 115 = .ok (.istore_n 2, 1) := dk_61 (dk_at dksX3_load_4 22 rfl rfl)
theorem dX3_load_116 : decode cX3_load 116 = .ok (.iload_n 2, 1) := dk_28 (dk_at dksX3_load_4 23 rfl rfl)
theorem dX3_load_117 : decode cX3_load 117 = .ok (.sipush 5604, 3) := dk_17 21 228 (dk_at dksX3_load_5 0 rfl rfl)
theorem dX3_load_120 : decode cX3_load 120 = .ok (.if_icmp .ge 21, 3) := dk_162 0 21 (dk_at dksX3_load_5 3 rfl rfl)
theorem dX3_load_123 : decode cX3_load 123 = .ok (.aload_n 0, 1) := dk_42 (dk_at dksX3_load_5 6 rfl rfl)
theorem dX3_load_124 : decode cX3_load 124 = .ok (.getfield 27, 3) := dk_180 0 27 (dk_at dksX3_load_5 7 rfl rfl)
theorem dX3_load_127 : decode cX3_load 127 = .ok (.iload_n 2, 1) := dk_28 (dk_at dksX3_load_5 10 rfl rfl)
theorem dX3_load_128 : decode cX3_load 128 = .ok (.aload_n 0, 1) := dk_42 (dk_at dksX3_load_5 11 rfl rfl)
theorem dX3_load_129 : decode cX3_load 129 = .ok (.getfield 30, 3) := dk_180 0 30 (dk_at dksX3_load_5 12 rfl rfl)
theorem dX3_load_132 : decode cX3_load 132 = .ok (.iload_n 2, 1) := dk_28 (dk_at dksX3_load_5 15 rfl rfl)
theorem dX3_load_133 : decode cX3_load 133 = .ok (.iaload, 1) := dk_46 (dk_at dksX3_load_5 16 rfl rfl)
theorem dX3_load_134 : decode cX3_load 134 = .ok (.iastore, 1) := dk_79 (dk_at dksX3_load_5 17 rfl rfl)
theorem dX3_load_135 : decode cX3_load 135 = .ok (.iinc 2 1, 3) := dk_132 2 1 (dk_at dksX3_load_5 18 rfl rfl)
theorem dX3_load_138 : decode cX3_load 138 = .ok (.goto (-22), 3) := dk_167 255 234 (dk_at dksX3_load_5 21 rfl rfl)
theorem dX3_load_141 : decode cX3_load 141 = .ok (.iconst 0, 1) := dk_3 (dk_at dksX3_load_6 0 rfl rfl)
theorem dX3_load_142 : decode cX3_load 142 = .ok (.istore_n 2, 1) := dk_61 (dk_at dksX3_load_6 1 rfl rfl)
theorem dX3_load_143 : decode cX3_load 143 = .ok (.iload_n 2, 1) := dk_28 (dk_at dksX3_load_6 2 rfl rfl)
theorem dX3_load_144 : decode cX3_load 144 = .ok (.aload_n 0, 1) := dk_42 (dk_at dksX3_load_6 3 rfl rfl)
theorem dX3_load_145 : decode cX3_load 145 = .ok (.getfield 13, 3) := dk_180 0 13 (dk_at dksX3_load_6 4 rfl rfl)
theorem dX3_load_148 : decode cX3_load 148 = .ok (.iconst 0, 1) := dk_3 (dk_at dksX3_load_6 7 rfl rfl)
theorem dX3_load_149 : decode cX3_load 149 = .ok (.iaload, 1) := dk_46 (dk_at dksX3_load_6 8 rfl rfl)
theorem dX3_load_150 : decode cX3_load 150 = .ok (.if_icmp .ge 14, 3) := dk_162 0 14 (dk_at dksX3_load_6 9 rfl rfl)
theorem dX3_load_153 : decode cX3_load 153 = .ok (.aload_n 0, 1) := dk_42 (dk_at dksX3_load_6 12 rfl rfl)
theorem dX3_load_154 : decode cX3_load 154 = .ok (.iload_n 2, 1) := dk_28 (dk_at dksX3_load_6 13 rfl rfl)
theorem dX3_load_155 : decode cX3_load 155 = .ok (.invokevirtual 269, 3) := dk_182 1 13 (dk_at dksX3_load_6 14 rfl rfl)
theorem dX3_load_158 : decode cX3_load 158 = .ok (.iinc 2 1, 3) := dk_132 2 1 (dk_at dksX3_load_6 17 rfl rfl)
theorem dX3_load_161 : decode cX3_load 161 = .ok (.goto (-18), 3) := dk_167 255 238 (dk_at dksX3_load_6 20 rfl rfl)
theorem dX3_load_164 : decode cX3_load 164 = .ok (.aload_n 0, 1) := dk_42 (dk_at dksX3_load_6 23 rfl rfl)
theorem dX3_load_165 : decode cX3_load 165 = .ok (.getfield 13, 3) := dk_180 0 13 (dk_at dksX3_load_7 0 rfl rfl)
theorem dX3_load_168 : decode cX3_load 168 = .ok (.iconst 0, 1) := dk_3 (dk_at dksX3_load_7 3 rfl rfl)
theorem dX3_load_169 : decode cX3_load 169 = .ok (.iaload, 1) := dk_46 (dk_at dksX3_load_7 4 rfl rfl)
theorem dX3_load_170 : decode cX3_load 170 = .ok (.ireturn, 1) := dk_172 (dk_at dksX3_load_7 5 rfl rfl)
abbrev cX3_count : ByteArray := prog_39_method_63_code
def yX3_count : MethodName := ⟨RX3, "count", "(I)I"⟩
def dkwX3_count_1 : List UInt8 := [182, 1, 6, 153, 0, 7, 3, 167, 0, 9, 42, 180, 0, 13, 27, 46, 172]
abbrev dktX3_count_1 : List UInt8 := dkwX3_count_1 ++ []
def dkwX3_count_0 : List UInt8 := [42, 3, 181, 0, 3, 42, 27, 133, 9, 20, 1, 58, 184, 0, 167, 154, 0, 7, 4, 167, 0, 4, 3, 4]
abbrev dktX3_count_0 : List UInt8 := dkwX3_count_0 ++ dktX3_count_1
theorem dksX3_count_0 : cX3_count.data.toList.drop 0 = dktX3_count_0 := by decide +kernel
theorem dksX3_count_1 : cX3_count.data.toList.drop 24 = dktX3_count_1 := dk_seg dksX3_count_0 24 rfl rfl
theorem dX3_count_0 : decode cX3_count 0 = .ok (.aload_n 0, 1) := dk_42 (dk_at dksX3_count_0 0 rfl rfl)
theorem dX3_count_1 : decode cX3_count 1 = .ok (.iconst 0, 1) := dk_3 (dk_at dksX3_count_0 1 rfl rfl)
theorem dX3_count_2 : decode cX3_count 2 = .ok (.putfield 3, 3) := dk_181 0 3 (dk_at dksX3_count_0 2 rfl rfl)
theorem dX3_count_5 : decode cX3_count 5 = .ok (.aload_n 0, 1) := dk_42 (dk_at dksX3_count_0 5 rfl rfl)
theorem dX3_count_6 : decode cX3_count 6 = .ok (.iload_n 1, 1) := dk_27 (dk_at dksX3_count_0 6 rfl rfl)
theorem dX3_count_7 : decode cX3_count 7 = .ok (.i2l, 1) := dk_133 (dk_at dksX3_count_0 7 rfl rfl)
theorem dX3_count_8 : decode cX3_count 8 = .ok (.lconst 0, 1) := dk_9 (dk_at dksX3_count_0 8 rfl rfl)
theorem dX3_count_9 : decode cX3_count 9 = .ok (.ldc2_w 314, 3) := dk_20 1 58 (dk_at dksX3_count_0 9 rfl rfl)
theorem dX3_count_12 : decode cX3_count 12 = .ok (.invokestatic 167, 3) := dk_184 0 167 (dk_at dksX3_count_0 12 rfl rfl)
theorem dX3_count_15 : decode cX3_count 15 = .ok (.ifCond .ne 7, 3) := dk_154 0 7 (dk_at dksX3_count_0 15 rfl rfl)
theorem dX3_count_18 : decode cX3_count 18 = .ok (.iconst 1, 1) := dk_4 (dk_at dksX3_count_0 18 rfl rfl)
theorem dX3_count_19 : decode cX3_count 19 = .ok (.goto 4, 3) := dk_167 0 4 (dk_at dksX3_count_0 19 rfl rfl)
theorem dX3_count_22 : decode cX3_count 22 = .ok (.iconst 0, 1) := dk_3 (dk_at dksX3_count_0 22 rfl rfl)
theorem dX3_count_23 : decode cX3_count 23 = .ok (.iconst 1, 1) := dk_4 (dk_at dksX3_count_0 23 rfl rfl)
theorem dX3_count_24 : decode cX3_count 24 = .ok (.invokevirtual 262, 3) := dk_182 1 6 (dk_at dksX3_count_1 0 rfl rfl)
theorem dX3_count_27 : decode cX3_count 27 = .ok (.ifCond .eq 7, 3) := dk_153 0 7 (dk_at dksX3_count_1 3 rfl rfl)
theorem dX3_count_30 : decode cX3_count 30 = .ok (.iconst 0, 1) := dk_3 (dk_at dksX3_count_1 6 rfl rfl)
theorem dX3_count_31 : decode cX3_count 31 = .ok (.goto 9, 3) := dk_167 0 9 (dk_at dksX3_count_1 7 rfl rfl)
theorem dX3_count_34 : decode cX3_count 34 = .ok (.aload_n 0, 1) := dk_42 (dk_at dksX3_count_1 10 rfl rfl)
theorem dX3_count_35 : decode cX3_count 35 = .ok (.getfield 13, 3) := dk_180 0 13 (dk_at dksX3_count_1 11 rfl rfl)
theorem dX3_count_38 : decode cX3_count 38 = .ok (.iload_n 1, 1) := dk_27 (dk_at dksX3_count_1 14 rfl rfl)
theorem dX3_count_39 : decode cX3_count 39 = .ok (.iaload, 1) := dk_46 (dk_at dksX3_count_1 15 rfl rfl)
theorem dX3_count_40 : decode cX3_count 40 = .ok (.ireturn, 1) := dk_172 (dk_at dksX3_count_1 16 rfl rfl)
abbrev cX3_speciesNamed : ByteArray := prog_39_method_64_code
def yX3_speciesNamed : MethodName := ⟨RX3, "speciesNamed", "()I"⟩
def dkwX3_speciesNamed_3 : List UInt8 := [100, 4, 96, 61, 132, 3, 1, 167, 255, 210, 42, 28, 182, 0, 176, 172]
abbrev dktX3_speciesNamed_3 : List UInt8 := dkwX3_speciesNamed_3 ++ []
def dkwX3_speciesNamed_2 : List UInt8 := [20, 1, 62, 184, 0, 167, 154, 0, 5, 2, 172, 16, 27, 28, 104, 42, 180, 0, 37, 29, 51, 96, 16, 97]
abbrev dktX3_speciesNamed_2 : List UInt8 := dkwX3_speciesNamed_2 ++ dktX3_speciesNamed_3
def dkwX3_speciesNamed_1 : List UInt8 := [154, 0, 5, 2, 172, 3, 61, 3, 62, 29, 27, 162, 0, 47, 42, 180, 0, 37, 29, 51, 133, 20, 1, 60]
abbrev dktX3_speciesNamed_1 : List UInt8 := dkwX3_speciesNamed_1 ++ dktX3_speciesNamed_2
def dkwX3_speciesNamed_0 : List UInt8 := [42, 3, 181, 0, 3, 42, 180, 0, 114, 60, 42, 3, 181, 0, 114, 27, 133, 10, 20, 0, 171, 184, 0, 167]
abbrev dktX3_speciesNamed_0 : List UInt8 := dkwX3_speciesNamed_0 ++ dktX3_speciesNamed_1
theorem dksX3_speciesNamed_0 : cX3_speciesNamed.data.toList.drop 0 = dktX3_speciesNamed_0 := by decide +kernel
theorem dksX3_speciesNamed_1 : cX3_speciesNamed.data.toList.drop 24 = dktX3_speciesNamed_1 := dk_seg dksX3_speciesNamed_0 24 rfl rfl
theorem dksX3_speciesNamed_2 : cX3_speciesNamed.data.toList.drop 48 = dktX3_speciesNamed_2 := dk_seg dksX3_speciesNamed_1 24 rfl rfl
theorem dksX3_speciesNamed_3 : cX3_speciesNamed.data.toList.drop 72 = dktX3_speciesNamed_3 := dk_seg dksX3_speciesNamed_2 24 rfl rfl
theorem dX3_speciesNamed_0 : decode cX3_speciesNamed 0 = .ok (.aload_n 0, 1) := dk_42 (dk_at dksX3_speciesNamed_0 0 rfl rfl)
theorem dX3_speciesNamed_1 : decode cX3_speciesNamed 1 = .ok (.iconst 0, 1) := dk_3 (dk_at dksX3_speciesNamed_0 1 rfl rfl)
theorem dX3_speciesNamed_2 : decode cX3_speciesNamed 2 = .ok (.putfield 3, 3) := dk_181 0 3 (dk_at dksX3_speciesNamed_0 2 rfl rfl)
theorem dX3_speciesNamed_5 : decode cX3_speciesNamed 5 = .ok (.aload_n 0, 1) := dk_42 (dk_at dksX3_speciesNamed_0 5 rfl rfl)
theorem dX3_speciesNamed_6 : decode cX3_speciesNamed 6 = .ok (.getfield 114, 3) := dk_180 0 114 (dk_at dksX3_speciesNamed_0 6 rfl rfl)
theorem dX3_speciesNamed_9 : decode cX3_speciesNamed 9 = .ok (.istore_n 1, 1) := dk_60 (dk_at dksX3_speciesNamed_0 9 rfl rfl)
theorem dX3_speciesNamed_10 : decode cX3_speciesNamed 10 = .ok (.aload_n 0, 1) := dk_42 (dk_at dksX3_speciesNamed_0 10 rfl rfl)
theorem dX3_speciesNamed_11 : decode cX3_speciesNamed 11 = .ok (.iconst 0, 1) := dk_3 (dk_at dksX3_speciesNamed_0 11 rfl rfl)
theorem dX3_speciesNamed_12 : decode cX3_speciesNamed 12 = .ok (.putfield 114, 3) := dk_181 0 114 (dk_at dksX3_speciesNamed_0 12 rfl rfl)
theorem dX3_speciesNamed_15 : decode cX3_speciesNamed 15 = .ok (.iload_n 1, 1) := dk_27 (dk_at dksX3_speciesNamed_0 15 rfl rfl)
theorem dX3_speciesNamed_16 : decode cX3_speciesNamed 16 = .ok (.i2l, 1) := dk_133 (dk_at dksX3_speciesNamed_0 16 rfl rfl)
theorem dX3_speciesNamed_17 : decode cX3_speciesNamed 17 = .ok (.lconst 1, 1) := dk_10 (dk_at dksX3_speciesNamed_0 17 rfl rfl)
theorem dX3_speciesNamed_18 : decode cX3_speciesNamed 18 = .ok (.ldc2_w 171, 3) := dk_20 0 171 (dk_at dksX3_speciesNamed_0 18 rfl rfl)
theorem dX3_speciesNamed_21 : decode cX3_speciesNamed 21 = .ok (.invokestatic 167, 3) := dk_184 0 167 (dk_at dksX3_speciesNamed_0 21 rfl rfl)
theorem dX3_speciesNamed_24 : decode cX3_speciesNamed 24 = .ok (.ifCond .ne 5, 3) := dk_154 0 5 (dk_at dksX3_speciesNamed_1 0 rfl rfl)
theorem dX3_speciesNamed_27 : decode cX3_speciesNamed 27 = .ok (.iconst (-1), 1) := dk_2 (dk_at dksX3_speciesNamed_1 3 rfl rfl)
theorem dX3_speciesNamed_28 : decode cX3_speciesNamed 28 = .ok (.ireturn, 1) := dk_172 (dk_at dksX3_speciesNamed_1 4 rfl rfl)
theorem dX3_speciesNamed_29 : decode cX3_speciesNamed 29 = .ok (.iconst 0, 1) := dk_3 (dk_at dksX3_speciesNamed_1 5 rfl rfl)
theorem dX3_speciesNamed_30 : decode cX3_speciesNamed 30 = .ok (.istore_n 2, 1) := dk_61 (dk_at dksX3_speciesNamed_1 6 rfl rfl)
theorem dX3_speciesNamed_31 : decode cX3_speciesNamed 31 = .ok (.iconst 0, 1) := dk_3 (dk_at dksX3_speciesNamed_1 7 rfl rfl)
theorem dX3_speciesNamed_32 : decode cX3_speciesNamed 32 = .ok (.istore_n 3, 1) := dk_62 (dk_at dksX3_speciesNamed_1 8 rfl rfl)
theorem dX3_speciesNamed_33 : decode cX3_speciesNamed 33 = .ok (.iload_n 3, 1) := dk_29 (dk_at dksX3_speciesNamed_1 9 rfl rfl)
theorem dX3_speciesNamed_34 : decode cX3_speciesNamed 34 = .ok (.iload_n 1, 1) := dk_27 (dk_at dksX3_speciesNamed_1 10 rfl rfl)
theorem dX3_speciesNamed_35 : decode cX3_speciesNamed 35 = .ok (.if_icmp .ge 47, 3) := dk_162 0 47 (dk_at dksX3_speciesNamed_1 11 rfl rfl)
theorem dX3_speciesNamed_38 : decode cX3_speciesNamed 38 = .ok (.aload_n 0, 1) := dk_42 (dk_at dksX3_speciesNamed_1 14 rfl rfl)
theorem dX3_speciesNamed_39 : decode cX3_speciesNamed 39 = .ok (.getfield 37, 3) := dk_180 0 37 (dk_at dksX3_speciesNamed_1 15 rfl rfl)
theorem dX3_speciesNamed_42 : decode cX3_speciesNamed 42 = .ok (.iload_n 3, 1) := dk_29 (dk_at dksX3_speciesNamed_1 18 rfl rfl)
theorem dX3_speciesNamed_43 : decode cX3_speciesNamed 43 = .ok (.baload, 1) := dk_51 (dk_at dksX3_speciesNamed_1 19 rfl rfl)
theorem dX3_speciesNamed_44 : decode cX3_speciesNamed 44 = .ok (.i2l, 1) := dk_133 (dk_at dksX3_speciesNamed_1 20 rfl rfl)
theorem dX3_speciesNamed_45 : decode cX3_speciesNamed 45 = .ok (.ldc2_w 316, 3) := dk_20 1 60 (dk_at dksX3_speciesNamed_1 21 rfl rfl)
theorem dX3_speciesNamed_48 : decode cX3_speciesNamed 48 = .ok (.ldc2_w 318, 3) := dk_20 1 62 (dk_at dksX3_speciesNamed_2 0 rfl rfl)
theorem dX3_speciesNamed_51 : decode cX3_speciesNamed 51 = .ok (.invokestatic 167, 3) := dk_184 0 167 (dk_at dksX3_speciesNamed_2 3 rfl rfl)
theorem dX3_speciesNamed_54 : decode cX3_speciesNamed 54 = .ok (.ifCond .ne 5, 3) := dk_154 0 5 (dk_at dksX3_speciesNamed_2 6 rfl rfl)
theorem dX3_speciesNamed_57 : decode cX3_speciesNamed 57 = .ok (.iconst (-1), 1) := dk_2 (dk_at dksX3_speciesNamed_2 9 rfl rfl)
theorem dX3_speciesNamed_58 : decode cX3_speciesNamed 58 = .ok (.ireturn, 1) := dk_172 (dk_at dksX3_speciesNamed_2 10 rfl rfl)
theorem dX3_speciesNamed_59 : decode cX3_speciesNamed 59 = .ok (.bipush 27, 2) := dk_16 27 (dk_at dksX3_speciesNamed_2 11 rfl rfl)
theorem dX3_speciesNamed_61 : decode cX3_speciesNamed 61 = .ok (.iload_n 2, 1) := dk_28 (dk_at dksX3_speciesNamed_2 13 rfl rfl)
theorem dX3_speciesNamed_62 : decode cX3_speciesNamed 62 = .ok (.imul, 1) := dk_104 (dk_at dksX3_speciesNamed_2 14 rfl rfl)
theorem dX3_speciesNamed_63 : decode cX3_speciesNamed 63 = .ok (.aload_n 0, 1) := dk_42 (dk_at dksX3_speciesNamed_2 15 rfl rfl)
theorem dX3_speciesNamed_64 : decode cX3_speciesNamed 64 = .ok (.getfield 37, 3) := dk_180 0 37 (dk_at dksX3_speciesNamed_2 16 rfl rfl)
theorem dX3_speciesNamed_67 : decode cX3_speciesNamed 67 = .ok (.iload_n 3, 1) := dk_29 (dk_at dksX3_speciesNamed_2 19 rfl rfl)
theorem dX3_speciesNamed_68 : decode cX3_speciesNamed 68 = .ok (.baload, 1) := dk_51 (dk_at dksX3_speciesNamed_2 20 rfl rfl)
theorem dX3_speciesNamed_69 : decode cX3_speciesNamed 69 = .ok (.iadd, 1) := dk_96 (dk_at dksX3_speciesNamed_2 21 rfl rfl)
theorem dX3_speciesNamed_70 : decode cX3_speciesNamed 70 = .ok (.bipush 97, 2) := dk_16 97 (dk_at dksX3_speciesNamed_2 22 rfl rfl)
theorem dX3_speciesNamed_72 : decode cX3_speciesNamed 72 = .ok (.isub, 1) := dk_100 (dk_at dksX3_speciesNamed_3 0 rfl rfl)
theorem dX3_speciesNamed_73 : decode cX3_speciesNamed 73 = .ok (.iconst 1, 1) := dk_4 (dk_at dksX3_speciesNamed_3 1 rfl rfl)
theorem dX3_speciesNamed_74 : decode cX3_speciesNamed 74 = .ok (.iadd, 1) := dk_96 (dk_at dksX3_speciesNamed_3 2 rfl rfl)
theorem dX3_speciesNamed_75 : decode cX3_speciesNamed 75 = .ok (.istore_n 2, 1) := dk_61 (dk_at dksX3_speciesNamed_3 3 rfl rfl)
theorem dX3_speciesNamed_76 : decode cX3_speciesNamed 76 = .ok (.iinc 3 1, 3) := dk_132 3 1 (dk_at dksX3_speciesNamed_3 4 rfl rfl)
theorem dX3_speciesNamed_79 : decode cX3_speciesNamed 79 = .ok (.goto (-46), 3) := dk_167 255 210 (dk_at dksX3_speciesNamed_3 7 rfl rfl)
theorem dX3_speciesNamed_82 : decode cX3_speciesNamed 82 = .ok (.aload_n 0, 1) := dk_42 (dk_at dksX3_speciesNamed_3 10 rfl rfl)
theorem dX3_speciesNamed_83 : decode cX3_speciesNamed 83 = .ok (.iload_n 2, 1) := dk_28 (dk_at dksX3_speciesNamed_3 11 rfl rfl)
theorem dX3_speciesNamed_84 : decode cX3_speciesNamed 84 = .ok (.invokevirtual 176, 3) := dk_182 0 176 (dk_at dksX3_speciesNamed_3 12 rfl rfl)
theorem dX3_speciesNamed_87 : decode cX3_speciesNamed 87 = .ok (.ireturn, 1) := dk_172 (dk_at dksX3_speciesNamed_3 15 rfl rfl)
abbrev cJ12_max : ByteArray := prog_56_method_65_code
def yJ12_max : MethodName := ⟨RJ12, "max", "(II)I"⟩
def dkwJ12_max_0 : List UInt8 := [26, 27, 161, 0, 7, 26, 167, 0, 4, 27, 172]
abbrev dktJ12_max_0 : List UInt8 := dkwJ12_max_0 ++ []
theorem dksJ12_max_0 : cJ12_max.data.toList.drop 0 = dktJ12_max_0 := by decide +kernel
theorem dJ12_max_0 : decode cJ12_max 0 = .ok (.iload_n 0, 1) := dk_26 (dk_at dksJ12_max_0 0 rfl rfl)
theorem dJ12_max_1 : decode cJ12_max 1 = .ok (.iload_n 1, 1) := dk_27 (dk_at dksJ12_max_0 1 rfl rfl)
theorem dJ12_max_2 : decode cJ12_max 2 = .ok (.if_icmp .lt 7, 3) := dk_161 0 7 (dk_at dksJ12_max_0 2 rfl rfl)
theorem dJ12_max_5 : decode cJ12_max 5 = .ok (.iload_n 0, 1) := dk_26 (dk_at dksJ12_max_0 5 rfl rfl)
theorem dJ12_max_6 : decode cJ12_max 6 = .ok (.goto 4, 3) := dk_167 0 4 (dk_at dksJ12_max_0 6 rfl rfl)
theorem dJ12_max_9 : decode cJ12_max 9 = .ok (.iload_n 1, 1) := dk_27 (dk_at dksJ12_max_0 9 rfl rfl)
theorem dJ12_max_10 : decode cJ12_max 10 = .ok (.ireturn, 1) := dk_172 (dk_at dksJ12_max_0 10 rfl rfl)
abbrev cX3_leftOf : ByteArray := prog_39_method_18_code
def yX3_leftOf : MethodName := ⟨RX3, "leftOf", "(I)I"⟩
def dkwX3_leftOf_0 : List UInt8 := [3, 42, 27, 8, 182, 0, 67, 42, 27, 16, 10, 182, 0, 67, 100, 184, 0, 77, 172]
abbrev dktX3_leftOf_0 : List UInt8 := dkwX3_leftOf_0 ++ []
theorem dksX3_leftOf_0 : cX3_leftOf.data.toList.drop 0 = dktX3_leftOf_0 := by decide +kernel
theorem dX3_leftOf_0 : decode cX3_leftOf 0 = .ok (.iconst 0, 1) := dk_3 (dk_at dksX3_leftOf_0 0 rfl rfl)
theorem dX3_leftOf_1 : decode cX3_leftOf 1 = .ok (.aload_n 0, 1) := dk_42 (dk_at dksX3_leftOf_0 1 rfl rfl)
theorem dX3_leftOf_2 : decode cX3_leftOf 2 = .ok (.iload_n 1, 1) := dk_27 (dk_at dksX3_leftOf_0 2 rfl rfl)
theorem dX3_leftOf_3 : decode cX3_leftOf 3 = .ok (.iconst 5, 1) := dk_8 (dk_at dksX3_leftOf_0 3 rfl rfl)
theorem dX3_leftOf_4 : decode cX3_leftOf 4 = .ok (.invokevirtual 67, 3) := dk_182 0 67 (dk_at dksX3_leftOf_0 4 rfl rfl)
theorem dX3_leftOf_7 : decode cX3_leftOf 7 = .ok (.aload_n 0, 1) := dk_42 (dk_at dksX3_leftOf_0 7 rfl rfl)
theorem dX3_leftOf_8 : decode cX3_leftOf 8 = .ok (.iload_n 1, 1) := dk_27 (dk_at dksX3_leftOf_0 8 rfl rfl)
theorem dX3_leftOf_9 : decode cX3_leftOf 9 = .ok (.bipush 10, 2) := dk_16 10 (dk_at dksX3_leftOf_0 9 rfl rfl)
theorem dX3_leftOf_11 : decode cX3_leftOf 11 = .ok (.invokevirtual 67, 3) := dk_182 0 67 (dk_at dksX3_leftOf_0 11 rfl rfl)
theorem dX3_leftOf_14 : decode cX3_leftOf 14 = .ok (.isub, 1) := dk_100 (dk_at dksX3_leftOf_0 14 rfl rfl)
theorem dX3_leftOf_15 : decode cX3_leftOf 15 = .ok (.invokestatic 77, 3) := dk_184 0 77 (dk_at dksX3_leftOf_0 15 rfl rfl)
theorem dX3_leftOf_18 : decode cX3_leftOf 18 = .ok (.ireturn, 1) := dk_172 (dk_at dksX3_leftOf_0 18 rfl rfl)
abbrev cX3_noSpecies : ByteArray := prog_39_method_61_code
def yX3_noSpecies : MethodName := ⟨RX3, "noSpecies", "(I)Z"⟩
def dkwX3_noSpecies_1 : List UInt8 := [4, 182, 1, 6, 172]
abbrev dktX3_noSpecies_1 : List UInt8 := dkwX3_noSpecies_1 ++ []
def dkwX3_noSpecies_0 : List UInt8 := [42, 27, 133, 9, 42, 180, 0, 13, 3, 46, 4, 100, 133, 184, 0, 167, 154, 0, 7, 4, 167, 0, 4, 3]
abbrev dktX3_noSpecies_0 : List UInt8 := dkwX3_noSpecies_0 ++ dktX3_noSpecies_1
theorem dksX3_noSpecies_0 : cX3_noSpecies.data.toList.drop 0 = dktX3_noSpecies_0 := by decide +kernel
theorem dksX3_noSpecies_1 : cX3_noSpecies.data.toList.drop 24 = dktX3_noSpecies_1 := dk_seg dksX3_noSpecies_0 24 rfl rfl
theorem dX3_noSpecies_0 : decode cX3_noSpecies 0 = .ok (.aload_n 0, 1) := dk_42 (dk_at dksX3_noSpecies_0 0 rfl rfl)
theorem dX3_noSpecies_1 : decode cX3_noSpecies 1 = .ok (.iload_n 1, 1) := dk_27 (dk_at dksX3_noSpecies_0 1 rfl rfl)
theorem dX3_noSpecies_2 : decode cX3_noSpecies 2 = .ok (.i2l, 1) := dk_133 (dk_at dksX3_noSpecies_0 2 rfl rfl)
theorem dX3_noSpecies_3 : decode cX3_noSpecies 3 = .ok (.lconst 0, 1) := dk_9 (dk_at dksX3_noSpecies_0 3 rfl rfl)
theorem dX3_noSpecies_4 : decode cX3_noSpecies 4 = .ok (.aload_n 0, 1) := dk_42 (dk_at dksX3_noSpecies_0 4 rfl rfl)
theorem dX3_noSpecies_5 : decode cX3_noSpecies 5 = .ok (.getfield 13, 3) := dk_180 0 13 (dk_at dksX3_noSpecies_0 5 rfl rfl)
theorem dX3_noSpecies_8 : decode cX3_noSpecies 8 = .ok (.iconst 0, 1) := dk_3 (dk_at dksX3_noSpecies_0 8 rfl rfl)
theorem dX3_noSpecies_9 : decode cX3_noSpecies 9 = .ok (.iaload, 1) := dk_46 (dk_at dksX3_noSpecies_0 9 rfl rfl)
theorem dX3_noSpecies_10 : decode cX3_noSpecies 10 = .ok (.iconst 1, 1) := dk_4 (dk_at dksX3_noSpecies_0 10 rfl rfl)
theorem dX3_noSpecies_11 : decode cX3_noSpecies 11 = .ok (.isub, 1) := dk_100 (dk_at dksX3_noSpecies_0 11 rfl rfl)
theorem dX3_noSpecies_12 : decode cX3_noSpecies 12 = .ok (.i2l, 1) := dk_133 (dk_at dksX3_noSpecies_0 12 rfl rfl)
theorem dX3_noSpecies_13 : decode cX3_noSpecies 13 = .ok (.invokestatic 167, 3) := dk_184 0 167 (dk_at dksX3_noSpecies_0 13 rfl rfl)
theorem dX3_noSpecies_16 : decode cX3_noSpecies 16 = .ok (.ifCond .ne 7, 3) := dk_154 0 7 (dk_at dksX3_noSpecies_0 16 rfl rfl)
theorem dX3_noSpecies_19 : decode cX3_noSpecies 19 = .ok (.iconst 1, 1) := dk_4 (dk_at dksX3_noSpecies_0 19 rfl rfl)
theorem dX3_noSpecies_20 : decode cX3_noSpecies 20 = .ok (.goto 4, 3) := dk_167 0 4 (dk_at dksX3_noSpecies_0 20 rfl rfl)
theorem dX3_noSpecies_23 : decode cX3_noSpecies 23 = .ok (.iconst 0, 1) := dk_3 (dk_at dksX3_noSpecies_0 23 rfl rfl)
theorem dX3_noSpecies_24 : decode cX3_noSpecies 24 = .ok (.iconst 1, 1) := dk_4 (dk_at dksX3_noSpecies_1 0 rfl rfl)
theorem dX3_noSpecies_25 : decode cX3_noSpecies 25 = .ok (.invokevirtual 262, 3) := dk_182 1 6 (dk_at dksX3_noSpecies_1 1 rfl rfl)
theorem dX3_noSpecies_28 : decode cX3_noSpecies 28 = .ok (.ireturn, 1) := dk_172 (dk_at dksX3_noSpecies_1 4 rfl rfl)
abbrev cX3_field : ByteArray := prog_39_method_65_code
def yX3_field : MethodName := ⟨RX3, "field", "(II)I"⟩
def dkwX3_field_5 : List UInt8 := [42, 27, 182, 1, 28, 172, 42, 27, 16, 6, 182, 0, 67, 172, 42, 27, 16, 12, 182, 0, 67, 172]
abbrev dktX3_field_5 : List UInt8 := dkwX3_field_5 ++ []
def dkwX3_field_4 : List UInt8 := [182, 0, 104, 172, 42, 27, 182, 0, 107, 172, 42, 27, 7, 182, 0, 67, 172, 42, 27, 8, 182, 0, 67, 172]
abbrev dktX3_field_4 : List UInt8 := dkwX3_field_4 ++ dktX3_field_5
def dkwX3_field_3 : List UInt8 := [42, 27, 182, 0, 70, 172, 42, 27, 5, 182, 0, 67, 172, 42, 27, 6, 182, 0, 67, 172, 42, 27]
abbrev dktX3_field_3 : List UInt8 := dkwX3_field_3 ++ dktX3_field_4
def dkwX3_field_2 : List UInt8 := [170, 0, 0, 0, 0, 0, 111, 0, 0, 0, 0, 0, 0, 0, 8, 0, 0, 0, 51, 0, 0, 0, 57, 0, 0, 0, 64, 0, 0, 0, 71, 0, 0, 0, 77, 0, 0, 0, 83, 0, 0, 0, 90, 0, 0, 0, 97, 0, 0, 0, 103]
abbrev dktX3_field_2 : List UInt8 := dkwX3_field_2 ++ dktX3_field_3
def dkwX3_field_1 : List UInt8 := [154, 0, 7, 4, 167, 0, 4, 3, 5, 182, 1, 6, 153, 0, 5, 3, 172, 28]
abbrev dktX3_field_1 : List UInt8 := dkwX3_field_1 ++ dktX3_field_2
def dkwX3_field_0 : List UInt8 := [42, 3, 181, 0, 3, 42, 27, 182, 1, 55, 154, 0, 28, 42, 28, 133, 9, 20, 1, 64, 184, 0, 167]
abbrev dktX3_field_0 : List UInt8 := dkwX3_field_0 ++ dktX3_field_1
theorem dksX3_field_0 : cX3_field.data.toList.drop 0 = dktX3_field_0 := by decide +kernel
theorem dksX3_field_1 : cX3_field.data.toList.drop 23 = dktX3_field_1 := dk_seg dksX3_field_0 23 rfl rfl
theorem dksX3_field_2 : cX3_field.data.toList.drop 41 = dktX3_field_2 := dk_seg dksX3_field_1 18 rfl rfl
theorem dksX3_field_3 : cX3_field.data.toList.drop 92 = dktX3_field_3 := dk_seg dksX3_field_2 51 rfl rfl
theorem dksX3_field_4 : cX3_field.data.toList.drop 114 = dktX3_field_4 := dk_seg dksX3_field_3 22 rfl rfl
theorem dksX3_field_5 : cX3_field.data.toList.drop 138 = dktX3_field_5 := dk_seg dksX3_field_4 24 rfl rfl
theorem dX3_field_0 : decode cX3_field 0 = .ok (.aload_n 0, 1) := dk_42 (dk_at dksX3_field_0 0 rfl rfl)
theorem dX3_field_1 : decode cX3_field 1 = .ok (.iconst 0, 1) := dk_3 (dk_at dksX3_field_0 1 rfl rfl)
theorem dX3_field_2 : decode cX3_field 2 = .ok (.putfield 3, 3) := dk_181 0 3 (dk_at dksX3_field_0 2 rfl rfl)
theorem dX3_field_5 : decode cX3_field 5 = .ok (.aload_n 0, 1) := dk_42 (dk_at dksX3_field_0 5 rfl rfl)
theorem dX3_field_6 : decode cX3_field 6 = .ok (.iload_n 1, 1) := dk_27 (dk_at dksX3_field_0 6 rfl rfl)
theorem dX3_field_7 : decode cX3_field 7 = .ok (.invokevirtual 311, 3) := dk_182 1 55 (dk_at dksX3_field_0 7 rfl rfl)
theorem dX3_field_10 : decode cX3_field 10 = .ok (.ifCond .ne 28, 3) := dk_154 0 28 (dk_at dksX3_field_0 10 rfl rfl)
theorem dX3_field_13 : decode cX3_field 13 = .ok (.aload_n 0, 1) := dk_42 (dk_at dksX3_field_0 13 rfl rfl)
theorem dX3_field_14 : decode cX3_field 14 = .ok (.iload_n 2, 1) := dk_28 (dk_at dksX3_field_0 14 rfl rfl)
theorem dX3_field_15 : decode cX3_field 15 = .ok (.i2l, 1) := dk_133 (dk_at dksX3_field_0 15 rfl rfl)
theorem dX3_field_16 : decode cX3_field 16 = .ok (.lconst 0, 1) := dk_9 (dk_at dksX3_field_0 16 rfl rfl)
theorem dX3_field_17 : decode cX3_field 17 = .ok (.ldc2_w 320, 3) := dk_20 1 64 (dk_at dksX3_field_0 17 rfl rfl)
theorem dX3_field_20 : decode cX3_field 20 = .ok (.invokestatic 167, 3) := dk_184 0 167 (dk_at dksX3_field_0 20 rfl rfl)
theorem dX3_field_23 : decode cX3_field 23 = .ok (.ifCond .ne 7, 3) := dk_154 0 7 (dk_at dksX3_field_1 0 rfl rfl)
theorem dX3_field_26 : decode cX3_field 26 = .ok (.iconst 1, 1) := dk_4 (dk_at dksX3_field_1 3 rfl rfl)
theorem dX3_field_27 : decode cX3_field 27 = .ok (.goto 4, 3) := dk_167 0 4 (dk_at dksX3_field_1 4 rfl rfl)
theorem dX3_field_30 : decode cX3_field 30 = .ok (.iconst 0, 1) := dk_3 (dk_at dksX3_field_1 7 rfl rfl)
theorem dX3_field_31 : decode cX3_field 31 = .ok (.iconst 2, 1) := dk_5 (dk_at dksX3_field_1 8 rfl rfl)
theorem dX3_field_32 : decode cX3_field 32 = .ok (.invokevirtual 262, 3) := dk_182 1 6 (dk_at dksX3_field_1 9 rfl rfl)
theorem dX3_field_35 : decode cX3_field 35 = .ok (.ifCond .eq 5, 3) := dk_153 0 5 (dk_at dksX3_field_1 12 rfl rfl)
theorem dX3_field_38 : decode cX3_field 38 = .ok (.iconst 0, 1) := dk_3 (dk_at dksX3_field_1 15 rfl rfl)
theorem dX3_field_39 : decode cX3_field 39 = .ok (.ireturn, 1) := dk_172 (dk_at dksX3_field_1 16 rfl rfl)
theorem dX3_field_40 : decode cX3_field 40 = .ok (.iload_n 2, 1) := dk_28 (dk_at dksX3_field_1 17 rfl rfl)
theorem dX3_field_41 : decode cX3_field 41 = .ok (.tableswitch 111 0 8 #[51, 57, 64, 71, 77, 83, 90, 97, 103], 51) := by decide +kernel
theorem dX3_field_92 : decode cX3_field 92 = .ok (.aload_n 0, 1) := dk_42 (dk_at dksX3_field_3 0 rfl rfl)
theorem dX3_field_93 : decode cX3_field 93 = .ok (.iload_n 1, 1) := dk_27 (dk_at dksX3_field_3 1 rfl rfl)
theorem dX3_field_94 : decode cX3_field 94 = .ok (.invokevirtual 70, 3) := dk_182 0 70 (dk_at dksX3_field_3 2 rfl rfl)
theorem dX3_field_97 : decode cX3_field 97 = .ok (.ireturn, 1) := dk_172 (dk_at dksX3_field_3 5 rfl rfl)
theorem dX3_field_98 : decode cX3_field 98 = .ok (.aload_n 0, 1) := dk_42 (dk_at dksX3_field_3 6 rfl rfl)
theorem dX3_field_99 : decode cX3_field 99 = .ok (.iload_n 1, 1) := dk_27 (dk_at dksX3_field_3 7 rfl rfl)
theorem dX3_field_100 : decode cX3_field 100 = .ok (.iconst 2, 1) := dk_5 (dk_at dksX3_field_3 8 rfl rfl)
theorem dX3_field_101 : decode cX3_field 101 = .ok (.invokevirtual 67, 3) := dk_182 0 67 (dk_at dksX3_field_3 9 rfl rfl)
theorem dX3_field_104 : decode cX3_field 104 = .ok (.ireturn, 1) := dk_172 (dk_at dksX3_field_3 12 rfl rfl)
theorem dX3_field_105 : decode cX3_field 105 = .ok (.aload_n 0, 1) := dk_42 (dk_at dksX3_field_3 13 rfl rfl)
theorem dX3_field_106 : decode cX3_field 106 = .ok (.iload_n 1, 1) := dk_27 (dk_at dksX3_field_3 14 rfl rfl)
theorem dX3_field_107 : decode cX3_field 107 = .ok (.iconst 3, 1) := dk_6 (dk_at dksX3_field_3 15 rfl rfl)
theorem dX3_field_108 : decode cX3_field 108 = .ok (.invokevirtual 67, 3) := dk_182 0 67 (dk_at dksX3_field_3 16 rfl rfl)
theorem dX3_field_111 : decode cX3_field 111 = .ok (.ireturn, 1) := dk_172 (dk_at dksX3_field_3 19 rfl rfl)
theorem dX3_field_112 : decode cX3_field 112 = .ok (.aload_n 0, 1) := dk_42 (dk_at dksX3_field_3 20 rfl rfl)
theorem dX3_field_113 : decode cX3_field 113 = .ok (.iload_n 1, 1) := dk_27 (dk_at dksX3_field_3 21 rfl rfl)
theorem dX3_field_114 : decode cX3_field 114 = .ok (.invokevirtual 104, 3) := dk_182 0 104 (dk_at dksX3_field_4 0 rfl rfl)
theorem dX3_field_117 : decode cX3_field 117 = .ok (.ireturn, 1) := dk_172 (dk_at dksX3_field_4 3 rfl rfl)
theorem dX3_field_118 : decode cX3_field 118 = .ok (.aload_n 0, 1) := dk_42 (dk_at dksX3_field_4 4 rfl rfl)
theorem dX3_field_119 : decode cX3_field 119 = .ok (.iload_n 1, 1) := dk_27 (dk_at dksX3_field_4 5 rfl rfl)
theorem dX3_field_120 : decode cX3_field 120 = .ok (.invokevirtual 107, 3) := dk_182 0 107 (dk_at dksX3_field_4 6 rfl rfl)
theorem dX3_field_123 : decode cX3_field 123 = .ok (.ireturn, 1) := dk_172 (dk_at dksX3_field_4 9 rfl rfl)
theorem dX3_field_124 : decode cX3_field 124 = .ok (.aload_n 0, 1) := dk_42 (dk_at dksX3_field_4 10 rfl rfl)
theorem dX3_field_125 : decode cX3_field 125 = .ok (.iload_n 1, 1) := dk_27 (dk_at dksX3_field_4 11 rfl rfl)
theorem dX3_field_126 : decode cX3_field 126 = .ok (.iconst 4, 1) := dk_7 (dk_at dksX3_field_4 12 rfl rfl)
theorem dX3_field_127 : decode cX3_field 127 = .ok (.invokevirtual 67, 3) := dk_182 0 67 (dk_at dksX3_field_4 13 rfl rfl)
theorem dX3_field_130 : decode cX3_field 130 = .ok (.ireturn, 1) := dk_172 (dk_at dksX3_field_4 16 rfl rfl)
theorem dX3_field_131 : decode cX3_field 131 = .ok (.aload_n 0, 1) := dk_42 (dk_at dksX3_field_4 17 rfl rfl)
theorem dX3_field_132 : decode cX3_field 132 = .ok (.iload_n 1, 1) := dk_27 (dk_at dksX3_field_4 18 rfl rfl)
theorem dX3_field_133 : decode cX3_field 133 = .ok (.iconst 5, 1) := dk_8 (dk_at dksX3_field_4 19 rfl rfl)
theorem dX3_field_134 : decode cX3_field 134 = .ok (.invokevirtual 67, 3) := dk_182 0 67 (dk_at dksX3_field_4 20 rfl rfl)
theorem dX3_field_137 : decode cX3_field 137 = .ok (.ireturn, 1) := dk_172 (dk_at dksX3_field_4 23 rfl rfl)
theorem dX3_field_138 : decode cX3_field 138 = .ok (.aload_n 0, 1) := dk_42 (dk_at dksX3_field_5 0 rfl rfl)
theorem dX3_field_139 : decode cX3_field 139 = .ok (.iload_n 1, 1) := dk_27 (dk_at dksX3_field_5 1 rfl rfl)
theorem dX3_field_140 : decode cX3_field 140 = .ok (.invokevirtual 284, 3) := dk_182 1 28 (dk_at dksX3_field_5 2 rfl rfl)
theorem dX3_field_143 : decode cX3_field 143 = .ok (.ireturn, 1) := dk_172 (dk_at dksX3_field_5 5 rfl rfl)
theorem dX3_field_144 : decode cX3_field 144 = .ok (.aload_n 0, 1) := dk_42 (dk_at dksX3_field_5 6 rfl rfl)
theorem dX3_field_145 : decode cX3_field 145 = .ok (.iload_n 1, 1) := dk_27 (dk_at dksX3_field_5 7 rfl rfl)
theorem dX3_field_146 : decode cX3_field 146 = .ok (.bipush 6, 2) := dk_16 6 (dk_at dksX3_field_5 8 rfl rfl)
theorem dX3_field_148 : decode cX3_field 148 = .ok (.invokevirtual 67, 3) := dk_182 0 67 (dk_at dksX3_field_5 10 rfl rfl)
theorem dX3_field_151 : decode cX3_field 151 = .ok (.ireturn, 1) := dk_172 (dk_at dksX3_field_5 13 rfl rfl)
theorem dX3_field_152 : decode cX3_field 152 = .ok (.aload_n 0, 1) := dk_42 (dk_at dksX3_field_5 14 rfl rfl)
theorem dX3_field_153 : decode cX3_field 153 = .ok (.iload_n 1, 1) := dk_27 (dk_at dksX3_field_5 15 rfl rfl)
theorem dX3_field_154 : decode cX3_field 154 = .ok (.bipush 12, 2) := dk_16 12 (dk_at dksX3_field_5 16 rfl rfl)
theorem dX3_field_156 : decode cX3_field 156 = .ok (.invokevirtual 67, 3) := dk_182 0 67 (dk_at dksX3_field_5 18 rfl rfl)
theorem dX3_field_159 : decode cX3_field 159 = .ok (.ireturn, 1) := dk_172 (dk_at dksX3_field_5 21 rfl rfl)
abbrev cX3_noAge : ByteArray := prog_39_method_62_code
def yX3_noAge : MethodName := ⟨RX3, "noAge", "(II)Z"⟩
def dkwX3_noAge_1 : List UInt8 := [4, 167, 0, 4, 3, 4, 182, 1, 6, 153, 0, 7, 4, 167, 0, 4, 3, 172]
abbrev dktX3_noAge_1 : List UInt8 := dkwX3_noAge_1 ++ []
def dkwX3_noAge_0 : List UInt8 := [42, 27, 182, 1, 55, 154, 0, 31, 42, 28, 133, 9, 42, 27, 182, 0, 70, 133, 184, 0, 167, 154, 0, 7]
abbrev dktX3_noAge_0 : List UInt8 := dkwX3_noAge_0 ++ dktX3_noAge_1
theorem dksX3_noAge_0 : cX3_noAge.data.toList.drop 0 = dktX3_noAge_0 := by decide +kernel
theorem dksX3_noAge_1 : cX3_noAge.data.toList.drop 24 = dktX3_noAge_1 := dk_seg dksX3_noAge_0 24 rfl rfl
theorem dX3_noAge_0 : decode cX3_noAge 0 = .ok (.aload_n 0, 1) := dk_42 (dk_at dksX3_noAge_0 0 rfl rfl)
theorem dX3_noAge_1 : decode cX3_noAge 1 = .ok (.iload_n 1, 1) := dk_27 (dk_at dksX3_noAge_0 1 rfl rfl)
theorem dX3_noAge_2 : decode cX3_noAge 2 = .ok (.invokevirtual 311, 3) := dk_182 1 55 (dk_at dksX3_noAge_0 2 rfl rfl)
theorem dX3_noAge_5 : decode cX3_noAge 5 = .ok (.ifCond .ne 31, 3) := dk_154 0 31 (dk_at dksX3_noAge_0 5 rfl rfl)
theorem dX3_noAge_8 : decode cX3_noAge 8 = .ok (.aload_n 0, 1) := dk_42 (dk_at dksX3_noAge_0 8 rfl rfl)
theorem dX3_noAge_9 : decode cX3_noAge 9 = .ok (.iload_n 2, 1) := dk_28 (dk_at dksX3_noAge_0 9 rfl rfl)
theorem dX3_noAge_10 : decode cX3_noAge 10 = .ok (.i2l, 1) := dk_133 (dk_at dksX3_noAge_0 10 rfl rfl)
theorem dX3_noAge_11 : decode cX3_noAge 11 = .ok (.lconst 0, 1) := dk_9 (dk_at dksX3_noAge_0 11 rfl rfl)
theorem dX3_noAge_12 : decode cX3_noAge 12 = .ok (.aload_n 0, 1) := dk_42 (dk_at dksX3_noAge_0 12 rfl rfl)
theorem dX3_noAge_13 : decode cX3_noAge 13 = .ok (.iload_n 1, 1) := dk_27 (dk_at dksX3_noAge_0 13 rfl rfl)
theorem dX3_noAge_14 : decode cX3_noAge 14 = .ok (.invokevirtual 70, 3) := dk_182 0 70 (dk_at dksX3_noAge_0 14 rfl rfl)
theorem dX3_noAge_17 : decode cX3_noAge 17 = .ok (.i2l, 1) := dk_133 (dk_at dksX3_noAge_0 17 rfl rfl)
theorem dX3_noAge_18 : decode cX3_noAge 18 = .ok (.invokestatic 167, 3) := dk_184 0 167 (dk_at dksX3_noAge_0 18 rfl rfl)
theorem dX3_noAge_21 : decode cX3_noAge 21 = .ok (.ifCond .ne 7, 3) := dk_154 0 7 (dk_at dksX3_noAge_0 21 rfl rfl)
theorem dX3_noAge_24 : decode cX3_noAge 24 = .ok (.iconst 1, 1) := dk_4 (dk_at dksX3_noAge_1 0 rfl rfl)
theorem dX3_noAge_25 : decode cX3_noAge 25 = .ok (.goto 4, 3) := dk_167 0 4 (dk_at dksX3_noAge_1 1 rfl rfl)
theorem dX3_noAge_28 : decode cX3_noAge 28 = .ok (.iconst 0, 1) := dk_3 (dk_at dksX3_noAge_1 4 rfl rfl)
theorem dX3_noAge_29 : decode cX3_noAge 29 = .ok (.iconst 1, 1) := dk_4 (dk_at dksX3_noAge_1 5 rfl rfl)
theorem dX3_noAge_30 : decode cX3_noAge 30 = .ok (.invokevirtual 262, 3) := dk_182 1 6 (dk_at dksX3_noAge_1 6 rfl rfl)
theorem dX3_noAge_33 : decode cX3_noAge 33 = .ok (.ifCond .eq 7, 3) := dk_153 0 7 (dk_at dksX3_noAge_1 9 rfl rfl)
theorem dX3_noAge_36 : decode cX3_noAge 36 = .ok (.iconst 1, 1) := dk_4 (dk_at dksX3_noAge_1 12 rfl rfl)
theorem dX3_noAge_37 : decode cX3_noAge 37 = .ok (.goto 4, 3) := dk_167 0 4 (dk_at dksX3_noAge_1 13 rfl rfl)
theorem dX3_noAge_40 : decode cX3_noAge 40 = .ok (.iconst 0, 1) := dk_3 (dk_at dksX3_noAge_1 16 rfl rfl)
theorem dX3_noAge_41 : decode cX3_noAge 41 = .ok (.ireturn, 1) := dk_172 (dk_at dksX3_noAge_1 17 rfl rfl)
abbrev cX3_survival : ByteArray := prog_39_method_66_code
def yX3_survival : MethodName := ⟨RX3, "survival", "(II)I"⟩
def dkwX3_survival_1 : List UInt8 := [182, 0, 67, 172]
abbrev dktX3_survival_1 : List UInt8 := dkwX3_survival_1 ++ []
def dkwX3_survival_0 : List UInt8 := [42, 3, 181, 0, 3, 42, 27, 28, 182, 1, 66, 153, 0, 7, 3, 167, 0, 12, 42, 27, 16, 13, 28, 96]
abbrev dktX3_survival_0 : List UInt8 := dkwX3_survival_0 ++ dktX3_survival_1
theorem dksX3_survival_0 : cX3_survival.data.toList.drop 0 = dktX3_survival_0 := by decide +kernel
theorem dksX3_survival_1 : cX3_survival.data.toList.drop 24 = dktX3_survival_1 := dk_seg dksX3_survival_0 24 rfl rfl
theorem dX3_survival_0 : decode cX3_survival 0 = .ok (.aload_n 0, 1) := dk_42 (dk_at dksX3_survival_0 0 rfl rfl)
theorem dX3_survival_1 : decode cX3_survival 1 = .ok (.iconst 0, 1) := dk_3 (dk_at dksX3_survival_0 1 rfl rfl)
theorem dX3_survival_2 : decode cX3_survival 2 = .ok (.putfield 3, 3) := dk_181 0 3 (dk_at dksX3_survival_0 2 rfl rfl)
theorem dX3_survival_5 : decode cX3_survival 5 = .ok (.aload_n 0, 1) := dk_42 (dk_at dksX3_survival_0 5 rfl rfl)
theorem dX3_survival_6 : decode cX3_survival 6 = .ok (.iload_n 1, 1) := dk_27 (dk_at dksX3_survival_0 6 rfl rfl)
theorem dX3_survival_7 : decode cX3_survival 7 = .ok (.iload_n 2, 1) := dk_28 (dk_at dksX3_survival_0 7 rfl rfl)
theorem dX3_survival_8 : decode cX3_survival 8 = .ok (.invokevirtual 322, 3) := dk_182 1 66 (dk_at dksX3_survival_0 8 rfl rfl)
theorem dX3_survival_11 : decode cX3_survival 11 = .ok (.ifCond .eq 7, 3) := dk_153 0 7 (dk_at dksX3_survival_0 11 rfl rfl)
theorem dX3_survival_14 : decode cX3_survival 14 = .ok (.iconst 0, 1) := dk_3 (dk_at dksX3_survival_0 14 rfl rfl)
theorem dX3_survival_15 : decode cX3_survival 15 = .ok (.goto 12, 3) := dk_167 0 12 (dk_at dksX3_survival_0 15 rfl rfl)
theorem dX3_survival_18 : decode cX3_survival 18 = .ok (.aload_n 0, 1) := dk_42 (dk_at dksX3_survival_0 18 rfl rfl)
theorem dX3_survival_19 : decode cX3_survival 19 = .ok (.iload_n 1, 1) := dk_27 (dk_at dksX3_survival_0 19 rfl rfl)
theorem dX3_survival_20 : decode cX3_survival 20 = .ok (.bipush 13, 2) := dk_16 13 (dk_at dksX3_survival_0 20 rfl rfl)
theorem dX3_survival_22 : decode cX3_survival 22 = .ok (.iload_n 2, 1) := dk_28 (dk_at dksX3_survival_0 22 rfl rfl)
theorem dX3_survival_23 : decode cX3_survival 23 = .ok (.iadd, 1) := dk_96 (dk_at dksX3_survival_0 23 rfl rfl)
theorem dX3_survival_24 : decode cX3_survival 24 = .ok (.invokevirtual 67, 3) := dk_182 0 67 (dk_at dksX3_survival_1 0 rfl rfl)
theorem dX3_survival_27 : decode cX3_survival 27 = .ok (.ireturn, 1) := dk_172 (dk_at dksX3_survival_1 3 rfl rfl)
abbrev cX3_fecundity : ByteArray := prog_39_method_67_code
def yX3_fecundity : MethodName := ⟨RX3, "fecundity", "(II)I"⟩
def dkwX3_fecundity_1 : List UInt8 := [182, 0, 67, 172]
abbrev dktX3_fecundity_1 : List UInt8 := dkwX3_fecundity_1 ++ []
def dkwX3_fecundity_0 : List UInt8 := [42, 3, 181, 0, 3, 42, 27, 28, 182, 1, 66, 153, 0, 7, 3, 167, 0, 12, 42, 27, 16, 26, 28, 96]
abbrev dktX3_fecundity_0 : List UInt8 := dkwX3_fecundity_0 ++ dktX3_fecundity_1
theorem dksX3_fecundity_0 : cX3_fecundity.data.toList.drop 0 = dktX3_fecundity_0 := by decide +kernel
theorem dksX3_fecundity_1 : cX3_fecundity.data.toList.drop 24 = dktX3_fecundity_1 := dk_seg dksX3_fecundity_0 24 rfl rfl
theorem dX3_fecundity_0 : decode cX3_fecundity 0 = .ok (.aload_n 0, 1) := dk_42 (dk_at dksX3_fecundity_0 0 rfl rfl)
theorem dX3_fecundity_1 : decode cX3_fecundity 1 = .ok (.iconst 0, 1) := dk_3 (dk_at dksX3_fecundity_0 1 rfl rfl)
theorem dX3_fecundity_2 : decode cX3_fecundity 2 = .ok (.putfield 3, 3) := dk_181 0 3 (dk_at dksX3_fecundity_0 2 rfl rfl)
theorem dX3_fecundity_5 : decode cX3_fecundity 5 = .ok (.aload_n 0, 1) := dk_42 (dk_at dksX3_fecundity_0 5 rfl rfl)
theorem dX3_fecundity_6 : decode cX3_fecundity 6 = .ok (.iload_n 1, 1) := dk_27 (dk_at dksX3_fecundity_0 6 rfl rfl)
theorem dX3_fecundity_7 : decode cX3_fecundity 7 = .ok (.iload_n 2, 1) := dk_28 (dk_at dksX3_fecundity_0 7 rfl rfl)
theorem dX3_fecundity_8 : decode cX3_fecundity 8 = .ok (.invokevirtual 322, 3) := dk_182 1 66 (dk_at dksX3_fecundity_0 8 rfl rfl)
theorem dX3_fecundity_11 : decode cX3_fecundity 11 = .ok (.ifCond .eq 7, 3) := dk_153 0 7 (dk_at dksX3_fecundity_0 11 rfl rfl)
theorem dX3_fecundity_14 : decode cX3_fecundity 14 = .ok (.iconst 0, 1) := dk_3 (dk_at dksX3_fecundity_0 14 rfl rfl)
theorem dX3_fecundity_15 : decode cX3_fecundity 15 = .ok (.goto 12, 3) := dk_167 0 12 (dk_at dksX3_fecundity_0 15 rfl rfl)
theorem dX3_fecundity_18 : decode cX3_fecundity 18 = .ok (.aload_n 0, 1) := dk_42 (dk_at dksX3_fecundity_0 18 rfl rfl)
theorem dX3_fecundity_19 : decode cX3_fecundity 19 = .ok (.iload_n 1, 1) := dk_27 (dk_at dksX3_fecundity_0 19 rfl rfl)
theorem dX3_fecundity_20 : decode cX3_fecundity 20 = .ok (.bipush 26, 2) := dk_16 26 (dk_at dksX3_fecundity_0 20 rfl rfl)
theorem dX3_fecundity_22 : decode cX3_fecundity 22 = .ok (.iload_n 2, 1) := dk_28 (dk_at dksX3_fecundity_0 22 rfl rfl)
theorem dX3_fecundity_23 : decode cX3_fecundity 23 = .ok (.iadd, 1) := dk_96 (dk_at dksX3_fecundity_0 23 rfl rfl)
theorem dX3_fecundity_24 : decode cX3_fecundity 24 = .ok (.invokevirtual 67, 3) := dk_182 0 67 (dk_at dksX3_fecundity_1 0 rfl rfl)
theorem dX3_fecundity_27 : decode cX3_fecundity 27 = .ok (.ireturn, 1) := dk_172 (dk_at dksX3_fecundity_1 3 rfl rfl)
abbrev cX3_cohort : ByteArray := prog_39_method_68_code
def yX3_cohort : MethodName := ⟨RX3, "cohort", "(II)I"⟩
def dkwX3_cohort_1 : List UInt8 := [172]
abbrev dktX3_cohort_1 : List UInt8 := dkwX3_cohort_1 ++ []
def dkwX3_cohort_0 : List UInt8 := [42, 3, 181, 0, 3, 42, 27, 28, 182, 1, 66, 153, 0, 7, 3, 167, 0, 9, 42, 27, 28, 182, 0, 74]
abbrev dktX3_cohort_0 : List UInt8 := dkwX3_cohort_0 ++ dktX3_cohort_1
theorem dksX3_cohort_0 : cX3_cohort.data.toList.drop 0 = dktX3_cohort_0 := by decide +kernel
theorem dksX3_cohort_1 : cX3_cohort.data.toList.drop 24 = dktX3_cohort_1 := dk_seg dksX3_cohort_0 24 rfl rfl
theorem dX3_cohort_0 : decode cX3_cohort 0 = .ok (.aload_n 0, 1) := dk_42 (dk_at dksX3_cohort_0 0 rfl rfl)
theorem dX3_cohort_1 : decode cX3_cohort 1 = .ok (.iconst 0, 1) := dk_3 (dk_at dksX3_cohort_0 1 rfl rfl)
theorem dX3_cohort_2 : decode cX3_cohort 2 = .ok (.putfield 3, 3) := dk_181 0 3 (dk_at dksX3_cohort_0 2 rfl rfl)
theorem dX3_cohort_5 : decode cX3_cohort 5 = .ok (.aload_n 0, 1) := dk_42 (dk_at dksX3_cohort_0 5 rfl rfl)
theorem dX3_cohort_6 : decode cX3_cohort 6 = .ok (.iload_n 1, 1) := dk_27 (dk_at dksX3_cohort_0 6 rfl rfl)
theorem dX3_cohort_7 : decode cX3_cohort 7 = .ok (.iload_n 2, 1) := dk_28 (dk_at dksX3_cohort_0 7 rfl rfl)
theorem dX3_cohort_8 : decode cX3_cohort 8 = .ok (.invokevirtual 322, 3) := dk_182 1 66 (dk_at dksX3_cohort_0 8 rfl rfl)
theorem dX3_cohort_11 : decode cX3_cohort 11 = .ok (.ifCond .eq 7, 3) := dk_153 0 7 (dk_at dksX3_cohort_0 11 rfl rfl)
theorem dX3_cohort_14 : decode cX3_cohort 14 = .ok (.iconst 0, 1) := dk_3 (dk_at dksX3_cohort_0 14 rfl rfl)
theorem dX3_cohort_15 : decode cX3_cohort 15 = .ok (.goto 9, 3) := dk_167 0 9 (dk_at dksX3_cohort_0 15 rfl rfl)
theorem dX3_cohort_18 : decode cX3_cohort 18 = .ok (.aload_n 0, 1) := dk_42 (dk_at dksX3_cohort_0 18 rfl rfl)
theorem dX3_cohort_19 : decode cX3_cohort 19 = .ok (.iload_n 1, 1) := dk_27 (dk_at dksX3_cohort_0 19 rfl rfl)
theorem dX3_cohort_20 : decode cX3_cohort 20 = .ok (.iload_n 2, 1) := dk_28 (dk_at dksX3_cohort_0 20 rfl rfl)
theorem dX3_cohort_21 : decode cX3_cohort 21 = .ok (.invokevirtual 74, 3) := dk_182 0 74 (dk_at dksX3_cohort_0 21 rfl rfl)
theorem dX3_cohort_24 : decode cX3_cohort 24 = .ok (.ireturn, 1) := dk_172 (dk_at dksX3_cohort_1 0 rfl rfl)
abbrev cX3_aliveOf : ByteArray := prog_39_method_69_code
def yX3_aliveOf : MethodName := ⟨RX3, "aliveOf", "(II)I"⟩
def dkwX3_aliveOf_1 : List UInt8 := [182, 0, 67, 133, 105, 20, 1, 20, 109, 136, 62, 132, 4, 1, 167, 255, 227, 29, 172]
abbrev dktX3_aliveOf_1 : List UInt8 := dkwX3_aliveOf_1 ++ []
def dkwX3_aliveOf_0 : List UInt8 := [19, 1, 69, 62, 3, 54, 4, 21, 4, 28, 162, 0, 29, 29, 133, 42, 27, 16, 13, 21, 4, 96]
abbrev dktX3_aliveOf_0 : List UInt8 := dkwX3_aliveOf_0 ++ dktX3_aliveOf_1
theorem dksX3_aliveOf_0 : cX3_aliveOf.data.toList.drop 0 = dktX3_aliveOf_0 := by decide +kernel
theorem dksX3_aliveOf_1 : cX3_aliveOf.data.toList.drop 22 = dktX3_aliveOf_1 := dk_seg dksX3_aliveOf_0 22 rfl rfl
theorem dX3_aliveOf_0 : decode cX3_aliveOf 0 = .ok (.ldc_w 325, 3) := dk_19 1 69 (dk_at dksX3_aliveOf_0 0 rfl rfl)
theorem dX3_aliveOf_3 : decode cX3_aliveOf 3 = .ok (.istore_n 3, 1) := dk_62 (dk_at dksX3_aliveOf_0 3 rfl rfl)
theorem dX3_aliveOf_4 : decode cX3_aliveOf 4 = .ok (.iconst 0, 1) := dk_3 (dk_at dksX3_aliveOf_0 4 rfl rfl)
theorem dX3_aliveOf_5 : decode cX3_aliveOf 5 = .ok (.istore 4, 2) := dk_54 4 (dk_at dksX3_aliveOf_0 5 rfl rfl)
theorem dX3_aliveOf_7 : decode cX3_aliveOf 7 = .ok (.iload 4, 2) := dk_21 4 (dk_at dksX3_aliveOf_0 7 rfl rfl)
theorem dX3_aliveOf_9 : decode cX3_aliveOf 9 = .ok (.iload_n 2, 1) := dk_28 (dk_at dksX3_aliveOf_0 9 rfl rfl)
theorem dX3_aliveOf_10 : decode cX3_aliveOf 10 = .ok (.if_icmp .ge 29, 3) := dk_162 0 29 (dk_at dksX3_aliveOf_0 10 rfl rfl)
theorem dX3_aliveOf_13 : decode cX3_aliveOf 13 = .ok (.iload_n 3, 1) := dk_29 (dk_at dksX3_aliveOf_0 13 rfl rfl)
theorem dX3_aliveOf_14 : decode cX3_aliveOf 14 = .ok (.i2l, 1) := dk_133 (dk_at dksX3_aliveOf_0 14 rfl rfl)
theorem dX3_aliveOf_15 : decode cX3_aliveOf 15 = .ok (.aload_n 0, 1) := dk_42 (dk_at dksX3_aliveOf_0 15 rfl rfl)
theorem dX3_aliveOf_16 : decode cX3_aliveOf 16 = .ok (.iload_n 1, 1) := dk_27 (dk_at dksX3_aliveOf_0 16 rfl rfl)
theorem dX3_aliveOf_17 : decode cX3_aliveOf 17 = .ok (.bipush 13, 2) := dk_16 13 (dk_at dksX3_aliveOf_0 17 rfl rfl)
theorem dX3_aliveOf_19 : decode cX3_aliveOf 19 = .ok (.iload 4, 2) := dk_21 4 (dk_at dksX3_aliveOf_0 19 rfl rfl)
theorem dX3_aliveOf_21 : decode cX3_aliveOf 21 = .ok (.iadd, 1) := dk_96 (dk_at dksX3_aliveOf_0 21 rfl rfl)
theorem dX3_aliveOf_22 : decode cX3_aliveOf 22 = .ok (.invokevirtual 67, 3) := dk_182 0 67 (dk_at dksX3_aliveOf_1 0 rfl rfl)
theorem dX3_aliveOf_25 : decode cX3_aliveOf 25 = .ok (.i2l, 1) := dk_133 (dk_at dksX3_aliveOf_1 3 rfl rfl)
theorem dX3_aliveOf_26 : decode cX3_aliveOf 26 = .ok (.lmul, 1) := dk_105 (dk_at dksX3_aliveOf_1 4 rfl rfl)
theorem dX3_aliveOf_27 : decode cX3_aliveOf 27 = .ok (.ldc2_w 276, 3) := dk_20 1 20 (dk_at dksX3_aliveOf_1 5 rfl rfl)
theorem dX3_aliveOf_30 : decode cX3_aliveOf 30 = .ok (.ldiv, 1) := dk_109 (dk_at dksX3_aliveOf_1 8 rfl rfl)
theorem dX3_aliveOf_31 : decode cX3_aliveOf 31 = .ok (.l2i, 1) := dk_136 (dk_at dksX3_aliveOf_1 9 rfl rfl)
theorem dX3_aliveOf_32 : decode cX3_aliveOf 32 = .ok (.istore_n 3, 1) := dk_62 (dk_at dksX3_aliveOf_1 10 rfl rfl)
theorem dX3_aliveOf_33 : decode cX3_aliveOf 33 = .ok (.iinc 4 1, 3) := dk_132 4 1 (dk_at dksX3_aliveOf_1 11 rfl rfl)
theorem dX3_aliveOf_36 : decode cX3_aliveOf 36 = .ok (.goto (-29), 3) := dk_167 255 227 (dk_at dksX3_aliveOf_1 14 rfl rfl)
theorem dX3_aliveOf_39 : decode cX3_aliveOf 39 = .ok (.iload_n 3, 1) := dk_29 (dk_at dksX3_aliveOf_1 17 rfl rfl)
theorem dX3_aliveOf_40 : decode cX3_aliveOf 40 = .ok (.ireturn, 1) := dk_172 (dk_at dksX3_aliveOf_1 18 rfl rfl)
abbrev cX3_alive : ByteArray := prog_39_method_70_code
def yX3_alive : MethodName := ⟨RX3, "alive", "(II)I"⟩
def dkwX3_alive_1 : List UInt8 := [172]
abbrev dktX3_alive_1 : List UInt8 := dkwX3_alive_1 ++ []
def dkwX3_alive_0 : List UInt8 := [42, 3, 181, 0, 3, 42, 27, 28, 182, 1, 66, 153, 0, 7, 3, 167, 0, 9, 42, 27, 28, 182, 1, 70]
abbrev dktX3_alive_0 : List UInt8 := dkwX3_alive_0 ++ dktX3_alive_1
theorem dksX3_alive_0 : cX3_alive.data.toList.drop 0 = dktX3_alive_0 := by decide +kernel
theorem dksX3_alive_1 : cX3_alive.data.toList.drop 24 = dktX3_alive_1 := dk_seg dksX3_alive_0 24 rfl rfl
theorem dX3_alive_0 : decode cX3_alive 0 = .ok (.aload_n 0, 1) := dk_42 (dk_at dksX3_alive_0 0 rfl rfl)
theorem dX3_alive_1 : decode cX3_alive 1 = .ok (.iconst 0, 1) := dk_3 (dk_at dksX3_alive_0 1 rfl rfl)
theorem dX3_alive_2 : decode cX3_alive 2 = .ok (.putfield 3, 3) := dk_181 0 3 (dk_at dksX3_alive_0 2 rfl rfl)
theorem dX3_alive_5 : decode cX3_alive 5 = .ok (.aload_n 0, 1) := dk_42 (dk_at dksX3_alive_0 5 rfl rfl)
theorem dX3_alive_6 : decode cX3_alive 6 = .ok (.iload_n 1, 1) := dk_27 (dk_at dksX3_alive_0 6 rfl rfl)
theorem dX3_alive_7 : decode cX3_alive 7 = .ok (.iload_n 2, 1) := dk_28 (dk_at dksX3_alive_0 7 rfl rfl)
theorem dX3_alive_8 : decode cX3_alive 8 = .ok (.invokevirtual 322, 3) := dk_182 1 66 (dk_at dksX3_alive_0 8 rfl rfl)
theorem dX3_alive_11 : decode cX3_alive 11 = .ok (.ifCond .eq 7, 3) := dk_153 0 7 (dk_at dksX3_alive_0 11 rfl rfl)
theorem dX3_alive_14 : decode cX3_alive 14 = .ok (.iconst 0, 1) := dk_3 (dk_at dksX3_alive_0 14 rfl rfl)
theorem dX3_alive_15 : decode cX3_alive 15 = .ok (.goto 9, 3) := dk_167 0 9 (dk_at dksX3_alive_0 15 rfl rfl)
theorem dX3_alive_18 : decode cX3_alive 18 = .ok (.aload_n 0, 1) := dk_42 (dk_at dksX3_alive_0 18 rfl rfl)
theorem dX3_alive_19 : decode cX3_alive 19 = .ok (.iload_n 1, 1) := dk_27 (dk_at dksX3_alive_0 19 rfl rfl)
theorem dX3_alive_20 : decode cX3_alive 20 = .ok (.iload_n 2, 1) := dk_28 (dk_at dksX3_alive_0 20 rfl rfl)
theorem dX3_alive_21 : decode cX3_alive 21 = .ok (.invokevirtual 326, 3) := dk_182 1 70 (dk_at dksX3_alive_0 21 rfl rfl)
theorem dX3_alive_24 : decode cX3_alive 24 = .ok (.ireturn, 1) := dk_172 (dk_at dksX3_alive_1 0 rfl rfl)
abbrev cX3_dying : ByteArray := prog_39_method_71_code
def yX3_dying : MethodName := ⟨RX3, "dying", "(II)I"⟩
def dkwX3_dying_1 : List UInt8 := [27, 182, 0, 70, 160, 0, 7, 3, 167, 0, 11, 42, 27, 28, 4, 96, 182, 1, 70, 100, 172]
abbrev dktX3_dying_1 : List UInt8 := dkwX3_dying_1 ++ []
def dkwX3_dying_0 : List UInt8 := [42, 3, 181, 0, 3, 42, 27, 28, 182, 1, 66, 153, 0, 5, 3, 172, 42, 27, 28, 182, 1, 70, 28, 42]
abbrev dktX3_dying_0 : List UInt8 := dkwX3_dying_0 ++ dktX3_dying_1
theorem dksX3_dying_0 : cX3_dying.data.toList.drop 0 = dktX3_dying_0 := by decide +kernel
theorem dksX3_dying_1 : cX3_dying.data.toList.drop 24 = dktX3_dying_1 := dk_seg dksX3_dying_0 24 rfl rfl
theorem dX3_dying_0 : decode cX3_dying 0 = .ok (.aload_n 0, 1) := dk_42 (dk_at dksX3_dying_0 0 rfl rfl)
theorem dX3_dying_1 : decode cX3_dying 1 = .ok (.iconst 0, 1) := dk_3 (dk_at dksX3_dying_0 1 rfl rfl)
theorem dX3_dying_2 : decode cX3_dying 2 = .ok (.putfield 3, 3) := dk_181 0 3 (dk_at dksX3_dying_0 2 rfl rfl)
theorem dX3_dying_5 : decode cX3_dying 5 = .ok (.aload_n 0, 1) := dk_42 (dk_at dksX3_dying_0 5 rfl rfl)
theorem dX3_dying_6 : decode cX3_dying 6 = .ok (.iload_n 1, 1) := dk_27 (dk_at dksX3_dying_0 6 rfl rfl)
theorem dX3_dying_7 : decode cX3_dying 7 = .ok (.iload_n 2, 1) := dk_28 (dk_at dksX3_dying_0 7 rfl rfl)
theorem dX3_dying_8 : decode cX3_dying 8 = .ok (.invokevirtual 322, 3) := dk_182 1 66 (dk_at dksX3_dying_0 8 rfl rfl)
theorem dX3_dying_11 : decode cX3_dying 11 = .ok (.ifCond .eq 5, 3) := dk_153 0 5 (dk_at dksX3_dying_0 11 rfl rfl)
theorem dX3_dying_14 : decode cX3_dying 14 = .ok (.iconst 0, 1) := dk_3 (dk_at dksX3_dying_0 14 rfl rfl)
theorem dX3_dying_15 : decode cX3_dying 15 = .ok (.ireturn, 1) := dk_172 (dk_at dksX3_dying_0 15 rfl rfl)
theorem dX3_dying_16 : decode cX3_dying 16 = .ok (.aload_n 0, 1) := dk_42 (dk_at dksX3_dying_0 16 rfl rfl)
theorem dX3_dying_17 : decode cX3_dying 17 = .ok (.iload_n 1, 1) := dk_27 (dk_at dksX3_dying_0 17 rfl rfl)
theorem dX3_dying_18 : decode cX3_dying 18 = .ok (.iload_n 2, 1) := dk_28 (dk_at dksX3_dying_0 18 rfl rfl)
theorem dX3_dying_19 : decode cX3_dying 19 = .ok (.invokevirtual 326, 3) := dk_182 1 70 (dk_at dksX3_dying_0 19 rfl rfl)
theorem dX3_dying_22 : decode cX3_dying 22 = .ok (.iload_n 2, 1) := dk_28 (dk_at dksX3_dying_0 22 rfl rfl)
theorem dX3_dying_23 : decode cX3_dying 23 = .ok (.aload_n 0, 1) := dk_42 (dk_at dksX3_dying_0 23 rfl rfl)
theorem dX3_dying_24 : decode cX3_dying 24 = .ok (.iload_n 1, 1) := dk_27 (dk_at dksX3_dying_1 0 rfl rfl)
theorem dX3_dying_25 : decode cX3_dying 25 = .ok (.invokevirtual 70, 3) := dk_182 0 70 (dk_at dksX3_dying_1 1 rfl rfl)
theorem dX3_dying_28 : decode cX3_dying 28 = .ok (.if_icmp .ne 7, 3) := dk_160 0 7 (dk_at dksX3_dying_1 4 rfl rfl)
theorem dX3_dying_31 : decode cX3_dying 31 = .ok (.iconst 0, 1) := dk_3 (dk_at dksX3_dying_1 7 rfl rfl)
theorem dX3_dying_32 : decode cX3_dying 32 = .ok (.goto 11, 3) := dk_167 0 11 (dk_at dksX3_dying_1 8 rfl rfl)
theorem dX3_dying_35 : decode cX3_dying 35 = .ok (.aload_n 0, 1) := dk_42 (dk_at dksX3_dying_1 11 rfl rfl)
theorem dX3_dying_36 : decode cX3_dying 36 = .ok (.iload_n 1, 1) := dk_27 (dk_at dksX3_dying_1 12 rfl rfl)
theorem dX3_dying_37 : decode cX3_dying 37 = .ok (.iload_n 2, 1) := dk_28 (dk_at dksX3_dying_1 13 rfl rfl)
theorem dX3_dying_38 : decode cX3_dying 38 = .ok (.iconst 1, 1) := dk_4 (dk_at dksX3_dying_1 14 rfl rfl)
theorem dX3_dying_39 : decode cX3_dying 39 = .ok (.iadd, 1) := dk_96 (dk_at dksX3_dying_1 15 rfl rfl)
theorem dX3_dying_40 : decode cX3_dying 40 = .ok (.invokevirtual 326, 3) := dk_182 1 70 (dk_at dksX3_dying_1 16 rfl rfl)
theorem dX3_dying_43 : decode cX3_dying 43 = .ok (.isub, 1) := dk_100 (dk_at dksX3_dying_1 19 rfl rfl)
theorem dX3_dying_44 : decode cX3_dying 44 = .ok (.ireturn, 1) := dk_172 (dk_at dksX3_dying_1 20 rfl rfl)
abbrev cX3_expectation : ByteArray := prog_39_method_72_code
def yX3_expectation : MethodName := ⟨RX3, "expectation", "(II)D"⟩
def dkwX3_expectation_3 : List UInt8 := [99, 175]
abbrev dktX3_expectation_3 : List UInt8 := dkwX3_expectation_3 ++ []
def dkwX3_expectation_2 : List UInt8 := [182, 1, 70, 96, 62, 132, 4, 1, 167, 255, 233, 29, 135, 42, 27, 28, 182, 1, 70, 135, 111, 20, 1, 73]
abbrev dktX3_expectation_2 : List UInt8 := dkwX3_expectation_2 ++ dktX3_expectation_3
def dkwX3_expectation_1 : List UInt8 := [175, 3, 62, 28, 4, 96, 54, 4, 21, 4, 42, 27, 182, 0, 70, 163, 0, 19, 29, 42, 27, 21, 4]
abbrev dktX3_expectation_1 : List UInt8 := dkwX3_expectation_1 ++ dktX3_expectation_2
def dkwX3_expectation_0 : List UInt8 := [42, 3, 181, 0, 3, 42, 27, 28, 182, 1, 66, 154, 0, 12, 42, 27, 28, 182, 1, 70, 154, 0, 5, 14]
abbrev dktX3_expectation_0 : List UInt8 := dkwX3_expectation_0 ++ dktX3_expectation_1
theorem dksX3_expectation_0 : cX3_expectation.data.toList.drop 0 = dktX3_expectation_0 := by decide +kernel
theorem dksX3_expectation_1 : cX3_expectation.data.toList.drop 24 = dktX3_expectation_1 := dk_seg dksX3_expectation_0 24 rfl rfl
theorem dksX3_expectation_2 : cX3_expectation.data.toList.drop 47 = dktX3_expectation_2 := dk_seg dksX3_expectation_1 23 rfl rfl
theorem dksX3_expectation_3 : cX3_expectation.data.toList.drop 71 = dktX3_expectation_3 := dk_seg dksX3_expectation_2 24 rfl rfl
theorem dX3_expectation_0 : decode cX3_expectation 0 = .ok (.aload_n 0, 1) := dk_42 (dk_at dksX3_expectation_0 0 rfl rfl)
theorem dX3_expectation_1 : decode cX3_expectation 1 = .ok (.iconst 0, 1) := dk_3 (dk_at dksX3_expectation_0 1 rfl rfl)
theorem dX3_expectation_2 : decode cX3_expectation 2 = .ok (.putfield 3, 3) := dk_181 0 3 (dk_at dksX3_expectation_0 2 rfl rfl)
theorem dX3_expectation_5 : decode cX3_expectation 5 = .ok (.aload_n 0, 1) := dk_42 (dk_at dksX3_expectation_0 5 rfl rfl)
theorem dX3_expectation_6 : decode cX3_expectation 6 = .ok (.iload_n 1, 1) := dk_27 (dk_at dksX3_expectation_0 6 rfl rfl)
theorem dX3_expectation_7 : decode cX3_expectation 7 = .ok (.iload_n 2, 1) := dk_28 (dk_at dksX3_expectation_0 7 rfl rfl)
theorem dX3_expectation_8 : decode cX3_expectation 8 = .ok (.invokevirtual 322, 3) := dk_182 1 66 (dk_at dksX3_expectation_0 8 rfl rfl)
theorem dX3_expectation_11 : decode cX3_expectation 11 = .ok (.ifCond .ne 12, 3) := dk_154 0 12 (dk_at dksX3_expectation_0 11 rfl rfl)
theorem dX3_expectation_14 : decode cX3_expectation 14 = .ok (.aload_n 0, 1) := dk_42 (dk_at dksX3_expectation_0 14 rfl rfl)
theorem dX3_expectation_15 : decode cX3_expectation 15 = .ok (.iload_n 1, 1) := dk_27 (dk_at dksX3_expectation_0 15 rfl rfl)
theorem dX3_expectation_16 : decode cX3_expectation 16 = .ok (.iload_n 2, 1) := dk_28 (dk_at dksX3_expectation_0 16 rfl rfl)
theorem dX3_expectation_17 : decode cX3_expectation 17 = .ok (.invokevirtual 326, 3) := dk_182 1 70 (dk_at dksX3_expectation_0 17 rfl rfl)
theorem dX3_expectation_20 : decode cX3_expectation 20 = .ok (.ifCond .ne 5, 3) := dk_154 0 5 (dk_at dksX3_expectation_0 20 rfl rfl)
theorem dX3_expectation_23 : decode cX3_expectation 23 = .ok (.dconst 0, 1) := dk_14 (dk_at dksX3_expectation_0 23 rfl rfl)
theorem dX3_expectation_24 : decode cX3_expectation 24 = .ok (.dreturn, 1) := dk_175 (dk_at dksX3_expectation_1 0 rfl rfl)
theorem dX3_expectation_25 : decode cX3_expectation 25 = .ok (.iconst 0, 1) := dk_3 (dk_at dksX3_expectation_1 1 rfl rfl)
theorem dX3_expectation_26 : decode cX3_expectation 26 = .ok (.istore_n 3, 1) := dk_62 (dk_at dksX3_expectation_1 2 rfl rfl)
theorem dX3_expectation_27 : decode cX3_expectation 27 = .ok (.iload_n 2, 1) := dk_28 (dk_at dksX3_expectation_1 3 rfl rfl)
theorem dX3_expectation_28 : decode cX3_expectation 28 = .ok (.iconst 1, 1) := dk_4 (dk_at dksX3_expectation_1 4 rfl rfl)
theorem dX3_expectation_29 : decode cX3_expectation 29 = .ok (.iadd, 1) := dk_96 (dk_at dksX3_expectation_1 5 rfl rfl)
theorem dX3_expectation_30 : decode cX3_expectation 30 = .ok (.istore 4, 2) := dk_54 4 (dk_at dksX3_expectation_1 6 rfl rfl)
theorem dX3_expectation_32 : decode cX3_expectation 32 = .ok (.iload 4, 2) := dk_21 4 (dk_at dksX3_expectation_1 8 rfl rfl)
theorem dX3_expectation_34 : decode cX3_expectation 34 = .ok (.aload_n 0, 1) := dk_42 (dk_at dksX3_expectation_1 10 rfl rfl)
theorem dX3_expectation_35 : decode cX3_expectation 35 = .ok (.iload_n 1, 1) := dk_27 (dk_at dksX3_expectation_1 11 rfl rfl)
theorem dX3_expectation_36 : decode cX3_expectation 36 = .ok (.invokevirtual 70, 3) := dk_182 0 70 (dk_at dksX3_expectation_1 12 rfl rfl)
theorem dX3_expectation_39 : decode cX3_expectation 39 = .ok (.if_icmp .gt 19, 3) := dk_163 0 19 (dk_at dksX3_expectation_1 15 rfl rfl)
theorem dX3_expectation_42 : decode cX3_expectation 42 = .ok (.iload_n 3, 1) := dk_29 (dk_at dksX3_expectation_1 18 rfl rfl)
theorem dX3_expectation_43 : decode cX3_expectation 43 = .ok (.aload_n 0, 1) := dk_42 (dk_at dksX3_expectation_1 19 rfl rfl)
theorem dX3_expectation_44 : decode cX3_expectation 44 = .ok (.iload_n 1, 1) := dk_27 (dk_at dksX3_expectation_1 20 rfl rfl)
theorem dX3_expectation_45 : decode cX3_expectation 45 = .ok (.iload 4, 2) := dk_21 4 (dk_at dksX3_expectation_1 21 rfl rfl)
theorem dX3_expectation_47 : decode cX3_expectation 47 = .ok (.invokevirtual 326, 3) := dk_182 1 70 (dk_at dksX3_expectation_2 0 rfl rfl)
theorem dX3_expectation_50 : decode cX3_expectation 50 = .ok (.iadd, 1) := dk_96 (dk_at dksX3_expectation_2 3 rfl rfl)
theorem dX3_expectation_51 : decode cX3_expectation 51 = .ok (.istore_n 3, 1) := dk_62 (dk_at dksX3_expectation_2 4 rfl rfl)
theorem dX3_expectation_52 : decode cX3_expectation 52 = .ok (.iinc 4 1, 3) := dk_132 4 1 (dk_at dksX3_expectation_2 5 rfl rfl)
theorem dX3_expectation_55 : decode cX3_expectation 55 = .ok (.goto (-23), 3) := dk_167 255 233 (dk_at dksX3_expectation_2 8 rfl rfl)
theorem dX3_expectation_58 : decode cX3_expectation 58 = .ok (.iload_n 3, 1) := dk_29 (dk_at dksX3_expectation_2 11 rfl rfl)
theorem dX3_expectation_59 : decode cX3_expectation 59 = .ok (.i2d, 1) := dk_135 (dk_at dksX3_expectation_2 12 rfl rfl)
theorem dX3_expectation_60 : decode cX3_expectation 60 = .ok (.aload_n 0, 1) := dk_42 (dk_at dksX3_expectation_2 13 rfl rfl)
theorem dX3_expectation_61 : decode cX3_expectation 61 = .ok (.iload_n 1, 1) := dk_27 (dk_at dksX3_expectation_2 14 rfl rfl)
theorem dX3_expectation_62 : decode cX3_expectation 62 = .ok (.iload_n 2, 1) := dk_28 (dk_at dksX3_expectation_2 15 rfl rfl)
theorem dX3_expectation_63 : decode cX3_expectation 63 = .ok (.invokevirtual 326, 3) := dk_182 1 70 (dk_at dksX3_expectation_2 16 rfl rfl)
theorem dX3_expectation_66 : decode cX3_expectation 66 = .ok (.i2d, 1) := dk_135 (dk_at dksX3_expectation_2 19 rfl rfl)
theorem dX3_expectation_67 : decode cX3_expectation 67 = .ok (.ddiv, 1) := dk_111 (dk_at dksX3_expectation_2 20 rfl rfl)
theorem dX3_expectation_68 : decode cX3_expectation 68 = .ok (.ldc2_w 329, 3) := dk_20 1 73 (dk_at dksX3_expectation_2 21 rfl rfl)
theorem dX3_expectation_71 : decode cX3_expectation 71 = .ok (.dadd, 1) := dk_99 (dk_at dksX3_expectation_3 0 rfl rfl)
theorem dX3_expectation_72 : decode cX3_expectation 72 = .ok (.dreturn, 1) := dk_175 (dk_at dksX3_expectation_3 1 rfl rfl)
abbrev cX3_bornOf : ByteArray := prog_39_method_73_code
def yX3_bornOf : MethodName := ⟨RX3, "bornOf", "(II)J"⟩
def dkwX3_bornOf_0 : List UInt8 := [42, 27, 28, 182, 1, 70, 133, 42, 27, 16, 26, 28, 96, 182, 0, 67, 133, 105, 173]
abbrev dktX3_bornOf_0 : List UInt8 := dkwX3_bornOf_0 ++ []
theorem dksX3_bornOf_0 : cX3_bornOf.data.toList.drop 0 = dktX3_bornOf_0 := by decide +kernel
theorem dX3_bornOf_0 : decode cX3_bornOf 0 = .ok (.aload_n 0, 1) := dk_42 (dk_at dksX3_bornOf_0 0 rfl rfl)
theorem dX3_bornOf_1 : decode cX3_bornOf 1 = .ok (.iload_n 1, 1) := dk_27 (dk_at dksX3_bornOf_0 1 rfl rfl)
theorem dX3_bornOf_2 : decode cX3_bornOf 2 = .ok (.iload_n 2, 1) := dk_28 (dk_at dksX3_bornOf_0 2 rfl rfl)
theorem dX3_bornOf_3 : decode cX3_bornOf 3 = .ok (.invokevirtual 326, 3) := dk_182 1 70 (dk_at dksX3_bornOf_0 3 rfl rfl)
theorem dX3_bornOf_6 : decode cX3_bornOf 6 = .ok (.i2l, 1) := dk_133 (dk_at dksX3_bornOf_0 6 rfl rfl)
theorem dX3_bornOf_7 : decode cX3_bornOf 7 = .ok (.aload_n 0, 1) := dk_42 (dk_at dksX3_bornOf_0 7 rfl rfl)
theorem dX3_bornOf_8 : decode cX3_bornOf 8 = .ok (.iload_n 1, 1) := dk_27 (dk_at dksX3_bornOf_0 8 rfl rfl)
theorem dX3_bornOf_9 : decode cX3_bornOf 9 = .ok (.bipush 26, 2) := dk_16 26 (dk_at dksX3_bornOf_0 9 rfl rfl)
theorem dX3_bornOf_11 : decode cX3_bornOf 11 = .ok (.iload_n 2, 1) := dk_28 (dk_at dksX3_bornOf_0 11 rfl rfl)
theorem dX3_bornOf_12 : decode cX3_bornOf 12 = .ok (.iadd, 1) := dk_96 (dk_at dksX3_bornOf_0 12 rfl rfl)
theorem dX3_bornOf_13 : decode cX3_bornOf 13 = .ok (.invokevirtual 67, 3) := dk_182 0 67 (dk_at dksX3_bornOf_0 13 rfl rfl)
theorem dX3_bornOf_16 : decode cX3_bornOf 16 = .ok (.i2l, 1) := dk_133 (dk_at dksX3_bornOf_0 16 rfl rfl)
theorem dX3_bornOf_17 : decode cX3_bornOf 17 = .ok (.lmul, 1) := dk_105 (dk_at dksX3_bornOf_0 17 rfl rfl)
theorem dX3_bornOf_18 : decode cX3_bornOf 18 = .ok (.lreturn, 1) := dk_173 (dk_at dksX3_bornOf_0 18 rfl rfl)
abbrev cX3_reproduction : ByteArray := prog_39_method_74_code
def yX3_reproduction : MethodName := ⟨RX3, "reproduction", "(I)D"⟩
def dkwX3_reproduction_2 : List UInt8 := [20, 1, 79, 111, 175]
abbrev dktX3_reproduction_2 : List UInt8 := dkwX3_reproduction_2 ++ []
def dkwX3_reproduction_1 : List UInt8 := [182, 0, 70, 163, 0, 19, 32, 42, 27, 21, 4, 182, 1, 75, 97, 65, 132, 4, 1, 167, 255, 233, 32, 138]
abbrev dktX3_reproduction_1 : List UInt8 := dkwX3_reproduction_1 ++ dktX3_reproduction_2
def dkwX3_reproduction_0 : List UInt8 := [42, 3, 181, 0, 3, 42, 27, 182, 1, 55, 153, 0, 5, 14, 175, 9, 65, 3, 54, 4, 21, 4, 42, 27]
abbrev dktX3_reproduction_0 : List UInt8 := dkwX3_reproduction_0 ++ dktX3_reproduction_1
theorem dksX3_reproduction_0 : cX3_reproduction.data.toList.drop 0 = dktX3_reproduction_0 := by decide +kernel
theorem dksX3_reproduction_1 : cX3_reproduction.data.toList.drop 24 = dktX3_reproduction_1 := dk_seg dksX3_reproduction_0 24 rfl rfl
theorem dksX3_reproduction_2 : cX3_reproduction.data.toList.drop 48 = dktX3_reproduction_2 := dk_seg dksX3_reproduction_1 24 rfl rfl
theorem dX3_reproduction_0 : decode cX3_reproduction 0 = .ok (.aload_n 0, 1) := dk_42 (dk_at dksX3_reproduction_0 0 rfl rfl)
theorem dX3_reproduction_1 : decode cX3_reproduction 1 = .ok (.iconst 0, 1) := dk_3 (dk_at dksX3_reproduction_0 1 rfl rfl)
theorem dX3_reproduction_2 : decode cX3_reproduction 2 = .ok (.putfield 3, 3) := dk_181 0 3 (dk_at dksX3_reproduction_0 2 rfl rfl)
theorem dX3_reproduction_5 : decode cX3_reproduction 5 = .ok (.aload_n 0, 1) := dk_42 (dk_at dksX3_reproduction_0 5 rfl rfl)
theorem dX3_reproduction_6 : decode cX3_reproduction 6 = .ok (.iload_n 1, 1) := dk_27 (dk_at dksX3_reproduction_0 6 rfl rfl)
theorem dX3_reproduction_7 : decode cX3_reproduction 7 = .ok (.invokevirtual 311, 3) := dk_182 1 55 (dk_at dksX3_reproduction_0 7 rfl rfl)
theorem dX3_reproduction_10 : decode cX3_reproduction 10 = .ok (.ifCond .eq 5, 3) := dk_153 0 5 (dk_at dksX3_reproduction_0 10 rfl rfl)
theorem dX3_reproduction_13 : decode cX3_reproduction 13 = .ok (.dconst 0, 1) := dk_14 (dk_at dksX3_reproduction_0 13 rfl rfl)
theorem dX3_reproduction_14 : decode cX3_reproduction 14 = .ok (.dreturn, 1) := dk_175 (dk_at dksX3_reproduction_0 14 rfl rfl)
theorem dX3_reproduction_15 : decode cX3_reproduction 15 = .ok (.lconst 0, 1) := dk_9 (dk_at dksX3_reproduction_0 15 rfl rfl)
theorem dX3_reproduction_16 : decode cX3_reproduction 16 = .ok (.lstore_n 2, 1) := dk_65 (dk_at dksX3_reproduction_0 16 rfl rfl)
theorem dX3_reproduction_17 : decode cX3_reproduction 17 = .ok (.iconst 0, 1) := dk_3 (dk_at dksX3_reproduction_0 17 rfl rfl)
theorem dX3_reproduction_18 : decode cX3_reproduction 18 = .ok (.istore 4, 2) := dk_54 4 (dk_at dksX3_reproduction_0 18 rfl rfl)
theorem dX3_reproduction_20 : decode cX3_reproduction 20 = .ok (.iload 4, 2) := dk_21 4 (dk_at dksX3_reproduction_0 20 rfl rfl)
theorem dX3_reproduction_22 : decode cX3_reproduction 22 = .ok (.aload_n 0, 1) := dk_42 (dk_at dksX3_reproduction_0 22 rfl rfl)
theorem dX3_reproduction_23 : decode cX3_reproduction 23 = .ok (.iload_n 1, 1) := dk_27 (dk_at dksX3_reproduction_0 23 rfl rfl)
theorem dX3_reproduction_24 : decode cX3_reproduction 24 = .ok (.invokevirtual 70, 3) := dk_182 0 70 (dk_at dksX3_reproduction_1 0 rfl rfl)
theorem dX3_reproduction_27 : decode cX3_reproduction 27 = .ok (.if_icmp .gt 19, 3) := dk_163 0 19 (dk_at dksX3_reproduction_1 3 rfl rfl)
theorem dX3_reproduction_30 : decode cX3_reproduction 30 = .ok (.lload_n 2, 1) := dk_32 (dk_at dksX3_reproduction_1 6 rfl rfl)
theorem dX3_reproduction_31 : decode cX3_reproduction 31 = .ok (.aload_n 0, 1) := dk_42 (dk_at dksX3_reproduction_1 7 rfl rfl)
theorem dX3_reproduction_32 : decode cX3_reproduction 32 = .ok (.iload_n 1, 1) := dk_27 (dk_at dksX3_reproduction_1 8 rfl rfl)
theorem dX3_reproduction_33 : decode cX3_reproduction 33 = .ok (.iload 4, 2) := dk_21 4 (dk_at dksX3_reproduction_1 9 rfl rfl)
theorem dX3_reproduction_35 : decode cX3_reproduction 35 = .ok (.invokevirtual 331, 3) := dk_182 1 75 (dk_at dksX3_reproduction_1 11 rfl rfl)
theorem dX3_reproduction_38 : decode cX3_reproduction 38 = .ok (.ladd, 1) := dk_97 (dk_at dksX3_reproduction_1 14 rfl rfl)
theorem dX3_reproduction_39 : decode cX3_reproduction 39 = .ok (.lstore_n 2, 1) := dk_65 (dk_at dksX3_reproduction_1 15 rfl rfl)
theorem dX3_reproduction_40 : decode cX3_reproduction 40 = .ok (.iinc 4 1, 3) := dk_132 4 1 (dk_at dksX3_reproduction_1 16 rfl rfl)
theorem dX3_reproduction_43 : decode cX3_reproduction 43 = .ok (.goto (-23), 3) := dk_167 255 233 (dk_at dksX3_reproduction_1 19 rfl rfl)
theorem dX3_reproduction_46 : decode cX3_reproduction 46 = .ok (.lload_n 2, 1) := dk_32 (dk_at dksX3_reproduction_1 22 rfl rfl)
theorem dX3_reproduction_47 : decode cX3_reproduction 47 = .ok (.l2d, 1) := dk_138 (dk_at dksX3_reproduction_1 23 rfl rfl)
theorem dX3_reproduction_48 : decode cX3_reproduction 48 = .ok (.ldc2_w 335, 3) := dk_20 1 79 (dk_at dksX3_reproduction_2 0 rfl rfl)
theorem dX3_reproduction_51 : decode cX3_reproduction 51 = .ok (.ddiv, 1) := dk_111 (dk_at dksX3_reproduction_2 3 rfl rfl)
theorem dX3_reproduction_52 : decode cX3_reproduction 52 = .ok (.dreturn, 1) := dk_175 (dk_at dksX3_reproduction_2 4 rfl rfl)
abbrev cX3_generation : ByteArray := prog_39_method_75_code
def yX3_generation : MethodName := ⟨RX3, "generation", "(I)D"⟩
def dkwX3_generation_3 : List UInt8 := [154, 0, 7, 14, 167, 0, 9, 32, 138, 22, 4, 138, 111, 175]
abbrev dktX3_generation_3 : List UInt8 := dkwX3_generation_3 ++ []
def dkwX3_generation_2 : List UInt8 := [22, 4, 42, 27, 21, 6, 182, 1, 75, 97, 55, 4, 132, 6, 1, 167, 255, 217, 22, 4, 9, 148]
abbrev dktX3_generation_2 : List UInt8 := dkwX3_generation_2 ++ dktX3_generation_3
def dkwX3_generation_1 : List UInt8 := [21, 6, 42, 27, 182, 0, 70, 163, 0, 35, 32, 21, 6, 133, 42, 27, 21, 6, 182, 1, 75, 105, 97, 65]
abbrev dktX3_generation_1 : List UInt8 := dkwX3_generation_1 ++ dktX3_generation_2
def dkwX3_generation_0 : List UInt8 := [42, 3, 181, 0, 3, 42, 27, 182, 1, 55, 153, 0, 5, 14, 175, 9, 65, 9, 55, 4, 3, 54, 6]
abbrev dktX3_generation_0 : List UInt8 := dkwX3_generation_0 ++ dktX3_generation_1
theorem dksX3_generation_0 : cX3_generation.data.toList.drop 0 = dktX3_generation_0 := by decide +kernel
theorem dksX3_generation_1 : cX3_generation.data.toList.drop 23 = dktX3_generation_1 := dk_seg dksX3_generation_0 23 rfl rfl
theorem dksX3_generation_2 : cX3_generation.data.toList.drop 47 = dktX3_generation_2 := dk_seg dksX3_generation_1 24 rfl rfl
theorem dksX3_generation_3 : cX3_generation.data.toList.drop 69 = dktX3_generation_3 := dk_seg dksX3_generation_2 22 rfl rfl
theorem dX3_generation_0 : decode cX3_generation 0 = .ok (.aload_n 0, 1) := dk_42 (dk_at dksX3_generation_0 0 rfl rfl)
theorem dX3_generation_1 : decode cX3_generation 1 = .ok (.iconst 0, 1) := dk_3 (dk_at dksX3_generation_0 1 rfl rfl)
theorem dX3_generation_2 : decode cX3_generation 2 = .ok (.putfield 3, 3) := dk_181 0 3 (dk_at dksX3_generation_0 2 rfl rfl)
theorem dX3_generation_5 : decode cX3_generation 5 = .ok (.aload_n 0, 1) := dk_42 (dk_at dksX3_generation_0 5 rfl rfl)
theorem dX3_generation_6 : decode cX3_generation 6 = .ok (.iload_n 1, 1) := dk_27 (dk_at dksX3_generation_0 6 rfl rfl)
theorem dX3_generation_7 : decode cX3_generation 7 = .ok (.invokevirtual 311, 3) := dk_182 1 55 (dk_at dksX3_generation_0 7 rfl rfl)
theorem dX3_generation_10 : decode cX3_generation 10 = .ok (.ifCond .eq 5, 3) := dk_153 0 5 (dk_at dksX3_generation_0 10 rfl rfl)
theorem dX3_generation_13 : decode cX3_generation 13 = .ok (.dconst 0, 1) := dk_14 (dk_at dksX3_generation_0 13 rfl rfl)
theorem dX3_generation_14 : decode cX3_generation 14 = .ok (.dreturn, 1) := dk_175 (dk_at dksX3_generation_0 14 rfl rfl)
theorem dX3_generation_15 : decode cX3_generation 15 = .ok (.lconst 0, 1) := dk_9 (dk_at dksX3_generation_0 15 rfl rfl)
theorem dX3_generation_16 : decode cX3_generation 16 = .ok (.lstore_n 2, 1) := dk_65 (dk_at dksX3_generation_0 16 rfl rfl)
theorem dX3_generation_17 : decode cX3_generation 17 = .ok (.lconst 0, 1) := dk_9 (dk_at dksX3_generation_0 17 rfl rfl)
theorem dX3_generation_18 : decode cX3_generation 18 = .ok (.lstore 4, 2) := dk_55 4 (dk_at dksX3_generation_0 18 rfl rfl)
theorem dX3_generation_20 : decode cX3_generation 20 = .ok (.iconst 0, 1) := dk_3 (dk_at dksX3_generation_0 20 rfl rfl)
theorem dX3_generation_21 : decode cX3_generation 21 = .ok (.istore 6, 2) := dk_54 6 (dk_at dksX3_generation_0 21 rfl rfl)
theorem dX3_generation_23 : decode cX3_generation 23 = .ok (.iload 6, 2) := dk_21 6 (dk_at dksX3_generation_1 0 rfl rfl)
theorem dX3_generation_25 : decode cX3_generation 25 = .ok (.aload_n 0, 1) := dk_42 (dk_at dksX3_generation_1 2 rfl rfl)
theorem dX3_generation_26 : decode cX3_generation 26 = .ok (.iload_n 1, 1) := dk_27 (dk_at dksX3_generation_1 3 rfl rfl)
theorem dX3_generation_27 : decode cX3_generation 27 = .ok (.invokevirtual 70, 3) := dk_182 0 70 (dk_at dksX3_generation_1 4 rfl rfl)
theorem dX3_generation_30 : decode cX3_generation 30 = .ok (.if_icmp .gt 35, 3) := dk_163 0 35 (dk_at dksX3_generation_1 7 rfl rfl)
theorem dX3_generation_33 : decode cX3_generation 33 = .ok (.lload_n 2, 1) := dk_32 (dk_at dksX3_generation_1 10 rfl rfl)
theorem dX3_generation_34 : decode cX3_generation 34 = .ok (.iload 6, 2) := dk_21 6 (dk_at dksX3_generation_1 11 rfl rfl)
theorem dX3_generation_36 : decode cX3_generation 36 = .ok (.i2l, 1) := dk_133 (dk_at dksX3_generation_1 13 rfl rfl)
theorem dX3_generation_37 : decode cX3_generation 37 = .ok (.aload_n 0, 1) := dk_42 (dk_at dksX3_generation_1 14 rfl rfl)
theorem dX3_generation_38 : decode cX3_generation 38 = .ok (.iload_n 1, 1) := dk_27 (dk_at dksX3_generation_1 15 rfl rfl)
theorem dX3_generation_39 : decode cX3_generation 39 = .ok (.iload 6, 2) := dk_21 6 (dk_at dksX3_generation_1 16 rfl rfl)
theorem dX3_generation_41 : decode cX3_generation 41 = .ok (.invokevirtual 331, 3) := dk_182 1 75 (dk_at dksX3_generation_1 18 rfl rfl)
theorem dX3_generation_44 : decode cX3_generation 44 = .ok (.lmul, 1) := dk_105 (dk_at dksX3_generation_1 21 rfl rfl)
theorem dX3_generation_45 : decode cX3_generation 45 = .ok (.ladd, 1) := dk_97 (dk_at dksX3_generation_1 22 rfl rfl)
theorem dX3_generation_46 : decode cX3_generation 46 = .ok (.lstore_n 2, 1) := dk_65 (dk_at dksX3_generation_1 23 rfl rfl)
theorem dX3_generation_47 : decode cX3_generation 47 = .ok (.lload 4, 2) := dk_22 4 (dk_at dksX3_generation_2 0 rfl rfl)
theorem dX3_generation_49 : decode cX3_generation 49 = .ok (.aload_n 0, 1) := dk_42 (dk_at dksX3_generation_2 2 rfl rfl)
theorem dX3_generation_50 : decode cX3_generation 50 = .ok (.iload_n 1, 1) := dk_27 (dk_at dksX3_generation_2 3 rfl rfl)
theorem dX3_generation_51 : decode cX3_generation 51 = .ok (.iload 6, 2) := dk_21 6 (dk_at dksX3_generation_2 4 rfl rfl)
theorem dX3_generation_53 : decode cX3_generation 53 = .ok (.invokevirtual 331, 3) := dk_182 1 75 (dk_at dksX3_generation_2 6 rfl rfl)
theorem dX3_generation_56 : decode cX3_generation 56 = .ok (.ladd, 1) := dk_97 (dk_at dksX3_generation_2 9 rfl rfl)
theorem dX3_generation_57 : decode cX3_generation 57 = .ok (.lstore 4, 2) := dk_55 4 (dk_at dksX3_generation_2 10 rfl rfl)
theorem dX3_generation_59 : decode cX3_generation 59 = .ok (.iinc 6 1, 3) := dk_132 6 1 (dk_at dksX3_generation_2 12 rfl rfl)
theorem dX3_generation_62 : decode cX3_generation 62 = .ok (.goto (-39), 3) := dk_167 255 217 (dk_at dksX3_generation_2 15 rfl rfl)
theorem dX3_generation_65 : decode cX3_generation 65 = .ok (.lload 4, 2) := dk_22 4 (dk_at dksX3_generation_2 18 rfl rfl)
theorem dX3_generation_67 : decode cX3_generation 67 = .ok (.lconst 0, 1) := dk_9 (dk_at dksX3_generation_2 20 rfl rfl)
theorem dX3_generation_68 : decode cX3_generation 68 = .ok (.lcmp, 1) := dk_148 (dk_at dksX3_generation_2 21 rfl rfl)
theorem dX3_generation_69 : decode cX3_generation 69 = .ok (.ifCond .ne 7, 3) := dk_154 0 7 (dk_at dksX3_generation_3 0 rfl rfl)
theorem dX3_generation_72 : decode cX3_generation 72 = .ok (.dconst 0, 1) := dk_14 (dk_at dksX3_generation_3 3 rfl rfl)
theorem dX3_generation_73 : decode cX3_generation 73 = .ok (.goto 9, 3) := dk_167 0 9 (dk_at dksX3_generation_3 4 rfl rfl)
theorem dX3_generation_76 : decode cX3_generation 76 = .ok (.lload_n 2, 1) := dk_32 (dk_at dksX3_generation_3 7 rfl rfl)
theorem dX3_generation_77 : decode cX3_generation 77 = .ok (.l2d, 1) := dk_138 (dk_at dksX3_generation_3 8 rfl rfl)
theorem dX3_generation_78 : decode cX3_generation 78 = .ok (.lload 4, 2) := dk_22 4 (dk_at dksX3_generation_3 9 rfl rfl)
theorem dX3_generation_80 : decode cX3_generation 80 = .ok (.l2d, 1) := dk_138 (dk_at dksX3_generation_3 11 rfl rfl)
theorem dX3_generation_81 : decode cX3_generation 81 = .ok (.ddiv, 1) := dk_111 (dk_at dksX3_generation_3 12 rfl rfl)
theorem dX3_generation_82 : decode cX3_generation 82 = .ok (.dreturn, 1) := dk_175 (dk_at dksX3_generation_3 13 rfl rfl)
abbrev cX3_firstYear : ByteArray := prog_39_method_76_code
def yX3_firstYear : MethodName := ⟨RX3, "firstYear", "()I"⟩
def dkwX3_firstYear_0 : List UInt8 := [42, 180, 0, 13, 4, 46, 42, 180, 0, 13, 5, 46, 100, 172]
abbrev dktX3_firstYear_0 : List UInt8 := dkwX3_firstYear_0 ++ []
theorem dksX3_firstYear_0 : cX3_firstYear.data.toList.drop 0 = dktX3_firstYear_0 := by decide +kernel
theorem dX3_firstYear_0 : decode cX3_firstYear 0 = .ok (.aload_n 0, 1) := dk_42 (dk_at dksX3_firstYear_0 0 rfl rfl)
theorem dX3_firstYear_1 : decode cX3_firstYear 1 = .ok (.getfield 13, 3) := dk_180 0 13 (dk_at dksX3_firstYear_0 1 rfl rfl)
theorem dX3_firstYear_4 : decode cX3_firstYear 4 = .ok (.iconst 1, 1) := dk_4 (dk_at dksX3_firstYear_0 4 rfl rfl)
theorem dX3_firstYear_5 : decode cX3_firstYear 5 = .ok (.iaload, 1) := dk_46 (dk_at dksX3_firstYear_0 5 rfl rfl)
theorem dX3_firstYear_6 : decode cX3_firstYear 6 = .ok (.aload_n 0, 1) := dk_42 (dk_at dksX3_firstYear_0 6 rfl rfl)
theorem dX3_firstYear_7 : decode cX3_firstYear 7 = .ok (.getfield 13, 3) := dk_180 0 13 (dk_at dksX3_firstYear_0 7 rfl rfl)
theorem dX3_firstYear_10 : decode cX3_firstYear 10 = .ok (.iconst 2, 1) := dk_5 (dk_at dksX3_firstYear_0 10 rfl rfl)
theorem dX3_firstYear_11 : decode cX3_firstYear 11 = .ok (.iaload, 1) := dk_46 (dk_at dksX3_firstYear_0 11 rfl rfl)
theorem dX3_firstYear_12 : decode cX3_firstYear 12 = .ok (.isub, 1) := dk_100 (dk_at dksX3_firstYear_0 12 rfl rfl)
theorem dX3_firstYear_13 : decode cX3_firstYear 13 = .ok (.ireturn, 1) := dk_172 (dk_at dksX3_firstYear_0 13 rfl rfl)
abbrev cX3_part : ByteArray := prog_39_method_59_code
def yX3_part : MethodName := ⟨RX3, "part", "(II)I"⟩
def dkwX3_part_4 : List UInt8 := [8, 182, 0, 67, 172]
abbrev dktX3_part_4 : List UInt8 := dkwX3_part_4 ++ []
def dkwX3_part_3 : List UInt8 := [42, 27, 16, 10, 182, 0, 67, 172, 42, 27, 16, 11, 182, 0, 67, 172, 42, 27, 182, 0, 104, 172, 42, 27]
abbrev dktX3_part_3 : List UInt8 := dkwX3_part_3 ++ dktX3_part_4
def dkwX3_part_2 : List UInt8 := [42, 27, 16, 7, 182, 0, 67, 172, 42, 27, 16, 8, 182, 0, 67, 172, 42, 27, 16, 9, 182, 0, 67, 172]
abbrev dktX3_part_2 : List UInt8 := dkwX3_part_2 ++ dktX3_part_3
def dkwX3_part_1 : List UInt8 := [170, 0, 0, 0, 0, 0, 85, 0, 0, 0, 0, 0, 0, 0, 5, 0, 0, 0, 39, 0, 0, 0, 47, 0, 0, 0, 55, 0, 0, 0, 63, 0, 0, 0, 71, 0, 0, 0, 79]
abbrev dktX3_part_1 : List UInt8 := dkwX3_part_1 ++ dktX3_part_2
def dkwX3_part_0 : List UInt8 := [28]
abbrev dktX3_part_0 : List UInt8 := dkwX3_part_0 ++ dktX3_part_1
theorem dksX3_part_0 : cX3_part.data.toList.drop 0 = dktX3_part_0 := by decide +kernel
theorem dksX3_part_1 : cX3_part.data.toList.drop 1 = dktX3_part_1 := dk_seg dksX3_part_0 1 rfl rfl
theorem dksX3_part_2 : cX3_part.data.toList.drop 40 = dktX3_part_2 := dk_seg dksX3_part_1 39 rfl rfl
theorem dksX3_part_3 : cX3_part.data.toList.drop 64 = dktX3_part_3 := dk_seg dksX3_part_2 24 rfl rfl
theorem dksX3_part_4 : cX3_part.data.toList.drop 88 = dktX3_part_4 := dk_seg dksX3_part_3 24 rfl rfl
theorem dX3_part_0 : decode cX3_part 0 = .ok (.iload_n 2, 1) := dk_28 (dk_at dksX3_part_0 0 rfl rfl)
theorem dX3_part_1 : decode cX3_part 1 = .ok (.tableswitch 85 0 5 #[39, 47, 55, 63, 71, 79], 39) := by decide +kernel
theorem dX3_part_40 : decode cX3_part 40 = .ok (.aload_n 0, 1) := dk_42 (dk_at dksX3_part_2 0 rfl rfl)
theorem dX3_part_41 : decode cX3_part 41 = .ok (.iload_n 1, 1) := dk_27 (dk_at dksX3_part_2 1 rfl rfl)
theorem dX3_part_42 : decode cX3_part 42 = .ok (.bipush 7, 2) := dk_16 7 (dk_at dksX3_part_2 2 rfl rfl)
theorem dX3_part_44 : decode cX3_part 44 = .ok (.invokevirtual 67, 3) := dk_182 0 67 (dk_at dksX3_part_2 4 rfl rfl)
theorem dX3_part_47 : decode cX3_part 47 = .ok (.ireturn, 1) := dk_172 (dk_at dksX3_part_2 7 rfl rfl)
theorem dX3_part_48 : decode cX3_part 48 = .ok (.aload_n 0, 1) := dk_42 (dk_at dksX3_part_2 8 rfl rfl)
theorem dX3_part_49 : decode cX3_part 49 = .ok (.iload_n 1, 1) := dk_27 (dk_at dksX3_part_2 9 rfl rfl)
theorem dX3_part_50 : decode cX3_part 50 = .ok (.bipush 8, 2) := dk_16 8 (dk_at dksX3_part_2 10 rfl rfl)
theorem dX3_part_52 : decode cX3_part 52 = .ok (.invokevirtual 67, 3) := dk_182 0 67 (dk_at dksX3_part_2 12 rfl rfl)
theorem dX3_part_55 : decode cX3_part 55 = .ok (.ireturn, 1) := dk_172 (dk_at dksX3_part_2 15 rfl rfl)
theorem dX3_part_56 : decode cX3_part 56 = .ok (.aload_n 0, 1) := dk_42 (dk_at dksX3_part_2 16 rfl rfl)
theorem dX3_part_57 : decode cX3_part 57 = .ok (.iload_n 1, 1) := dk_27 (dk_at dksX3_part_2 17 rfl rfl)
theorem dX3_part_58 : decode cX3_part 58 = .ok (.bipush 9, 2) := dk_16 9 (dk_at dksX3_part_2 18 rfl rfl)
theorem dX3_part_60 : decode cX3_part 60 = .ok (.invokevirtual 67, 3) := dk_182 0 67 (dk_at dksX3_part_2 20 rfl rfl)
theorem dX3_part_63 : decode cX3_part 63 = .ok (.ireturn, 1) := dk_172 (dk_at dksX3_part_2 23 rfl rfl)
theorem dX3_part_64 : decode cX3_part 64 = .ok (.aload_n 0, 1) := dk_42 (dk_at dksX3_part_3 0 rfl rfl)
theorem dX3_part_65 : decode cX3_part 65 = .ok (.iload_n 1, 1) := dk_27 (dk_at dksX3_part_3 1 rfl rfl)
theorem dX3_part_66 : decode cX3_part 66 = .ok (.bipush 10, 2) := dk_16 10 (dk_at dksX3_part_3 2 rfl rfl)
theorem dX3_part_68 : decode cX3_part 68 = .ok (.invokevirtual 67, 3) := dk_182 0 67 (dk_at dksX3_part_3 4 rfl rfl)
theorem dX3_part_71 : decode cX3_part 71 = .ok (.ireturn, 1) := dk_172 (dk_at dksX3_part_3 7 rfl rfl)
theorem dX3_part_72 : decode cX3_part 72 = .ok (.aload_n 0, 1) := dk_42 (dk_at dksX3_part_3 8 rfl rfl)
theorem dX3_part_73 : decode cX3_part 73 = .ok (.iload_n 1, 1) := dk_27 (dk_at dksX3_part_3 9 rfl rfl)
theorem dX3_part_74 : decode cX3_part 74 = .ok (.bipush 11, 2) := dk_16 11 (dk_at dksX3_part_3 10 rfl rfl)
theorem dX3_part_76 : decode cX3_part 76 = .ok (.invokevirtual 67, 3) := dk_182 0 67 (dk_at dksX3_part_3 12 rfl rfl)
theorem dX3_part_79 : decode cX3_part 79 = .ok (.ireturn, 1) := dk_172 (dk_at dksX3_part_3 15 rfl rfl)
theorem dX3_part_80 : decode cX3_part 80 = .ok (.aload_n 0, 1) := dk_42 (dk_at dksX3_part_3 16 rfl rfl)
theorem dX3_part_81 : decode cX3_part 81 = .ok (.iload_n 1, 1) := dk_27 (dk_at dksX3_part_3 17 rfl rfl)
theorem dX3_part_82 : decode cX3_part 82 = .ok (.invokevirtual 104, 3) := dk_182 0 104 (dk_at dksX3_part_3 18 rfl rfl)
theorem dX3_part_85 : decode cX3_part 85 = .ok (.ireturn, 1) := dk_172 (dk_at dksX3_part_3 21 rfl rfl)
theorem dX3_part_86 : decode cX3_part 86 = .ok (.aload_n 0, 1) := dk_42 (dk_at dksX3_part_3 22 rfl rfl)
theorem dX3_part_87 : decode cX3_part 87 = .ok (.iload_n 1, 1) := dk_27 (dk_at dksX3_part_3 23 rfl rfl)
theorem dX3_part_88 : decode cX3_part 88 = .ok (.iconst 5, 1) := dk_8 (dk_at dksX3_part_4 0 rfl rfl)
theorem dX3_part_89 : decode cX3_part 89 = .ok (.invokevirtual 67, 3) := dk_182 0 67 (dk_at dksX3_part_4 1 rfl rfl)
theorem dX3_part_92 : decode cX3_part 92 = .ok (.ireturn, 1) := dk_172 (dk_at dksX3_part_4 4 rfl rfl)
abbrev cX3_ledgerPart : ByteArray := prog_39_method_78_code
def yX3_ledgerPart : MethodName := ⟨RX3, "ledgerPart", "(III)I"⟩
def dkwX3_ledgerPart_1 : List UInt8 := [7, 104, 27, 96, 16, 7, 104, 29, 96, 46, 172]
abbrev dktX3_ledgerPart_1 : List UInt8 := dkwX3_ledgerPart_1 ++ []
def dkwX3_ledgerPart_0 : List UInt8 := [28, 42, 180, 0, 13, 5, 46, 160, 0, 12, 42, 27, 29, 182, 1, 52, 167, 0, 18, 42, 180, 0, 24, 28]
abbrev dktX3_ledgerPart_0 : List UInt8 := dkwX3_ledgerPart_0 ++ dktX3_ledgerPart_1
theorem dksX3_ledgerPart_0 : cX3_ledgerPart.data.toList.drop 0 = dktX3_ledgerPart_0 := by decide +kernel
theorem dksX3_ledgerPart_1 : cX3_ledgerPart.data.toList.drop 24 = dktX3_ledgerPart_1 := dk_seg dksX3_ledgerPart_0 24 rfl rfl
theorem dX3_ledgerPart_0 : decode cX3_ledgerPart 0 = .ok (.iload_n 2, 1) := dk_28 (dk_at dksX3_ledgerPart_0 0 rfl rfl)
theorem dX3_ledgerPart_1 : decode cX3_ledgerPart 1 = .ok (.aload_n 0, 1) := dk_42 (dk_at dksX3_ledgerPart_0 1 rfl rfl)
theorem dX3_ledgerPart_2 : decode cX3_ledgerPart 2 = .ok (.getfield 13, 3) := dk_180 0 13 (dk_at dksX3_ledgerPart_0 2 rfl rfl)
theorem dX3_ledgerPart_5 : decode cX3_ledgerPart 5 = .ok (.iconst 2, 1) := dk_5 (dk_at dksX3_ledgerPart_0 5 rfl rfl)
theorem dX3_ledgerPart_6 : decode cX3_ledgerPart 6 = .ok (.iaload, 1) := dk_46 (dk_at dksX3_ledgerPart_0 6 rfl rfl)
theorem dX3_ledgerPart_7 : decode cX3_ledgerPart 7 = .ok (.if_icmp .ne 12, 3) := dk_160 0 12 (dk_at dksX3_ledgerPart_0 7 rfl rfl)
theorem dX3_ledgerPart_10 : decode cX3_ledgerPart 10 = .ok (.aload_n 0, 1) := dk_42 (dk_at dksX3_ledgerPart_0 10 rfl rfl)
theorem dX3_ledgerPart_11 : decode cX3_ledgerPart 11 = .ok (.iload_n 1, 1) := dk_27 (dk_at dksX3_ledgerPart_0 11 rfl rfl)
theorem dX3_ledgerPart_12 : decode cX3_ledgerPart 12 = .ok (.iload_n 3, 1) := dk_29 (dk_at dksX3_ledgerPart_0 12 rfl rfl)
theorem dX3_ledgerPart_13 : decode cX3_ledgerPart 13 = .ok (.invokevirtual 308, 3) := dk_182 1 52 (dk_at dksX3_ledgerPart_0 13 rfl rfl)
theorem dX3_ledgerPart_16 : decode cX3_ledgerPart 16 = .ok (.goto 18, 3) := dk_167 0 18 (dk_at dksX3_ledgerPart_0 16 rfl rfl)
theorem dX3_ledgerPart_19 : decode cX3_ledgerPart 19 = .ok (.aload_n 0, 1) := dk_42 (dk_at dksX3_ledgerPart_0 19 rfl rfl)
theorem dX3_ledgerPart_20 : decode cX3_ledgerPart 20 = .ok (.getfield 24, 3) := dk_180 0 24 (dk_at dksX3_ledgerPart_0 20 rfl rfl)
theorem dX3_ledgerPart_23 : decode cX3_ledgerPart 23 = .ok (.iload_n 2, 1) := dk_28 (dk_at dksX3_ledgerPart_0 23 rfl rfl)
theorem dX3_ledgerPart_24 : decode cX3_ledgerPart 24 = .ok (.iconst 4, 1) := dk_7 (dk_at dksX3_ledgerPart_1 0 rfl rfl)
theorem dX3_ledgerPart_25 : decode cX3_ledgerPart 25 = .ok (.imul, 1) := dk_104 (dk_at dksX3_ledgerPart_1 1 rfl rfl)
theorem dX3_ledgerPart_26 : decode cX3_ledgerPart 26 = .ok (.iload_n 1, 1) := dk_27 (dk_at dksX3_ledgerPart_1 2 rfl rfl)
theorem dX3_ledgerPart_27 : decode cX3_ledgerPart 27 = .ok (.iadd, 1) := dk_96 (dk_at dksX3_ledgerPart_1 3 rfl rfl)
theorem dX3_ledgerPart_28 : decode cX3_ledgerPart 28 = .ok (.bipush 7, 2) := dk_16 7 (dk_at dksX3_ledgerPart_1 4 rfl rfl)
theorem dX3_ledgerPart_30 : decode cX3_ledgerPart 30 = .ok (.imul, 1) := dk_104 (dk_at dksX3_ledgerPart_1 6 rfl rfl)
theorem dX3_ledgerPart_31 : decode cX3_ledgerPart 31 = .ok (.iload_n 3, 1) := dk_29 (dk_at dksX3_ledgerPart_1 7 rfl rfl)
theorem dX3_ledgerPart_32 : decode cX3_ledgerPart 32 = .ok (.iadd, 1) := dk_96 (dk_at dksX3_ledgerPart_1 8 rfl rfl)
theorem dX3_ledgerPart_33 : decode cX3_ledgerPart 33 = .ok (.iaload, 1) := dk_46 (dk_at dksX3_ledgerPart_1 9 rfl rfl)
theorem dX3_ledgerPart_34 : decode cX3_ledgerPart 34 = .ok (.ireturn, 1) := dk_172 (dk_at dksX3_ledgerPart_1 10 rfl rfl)
abbrev cX3_isYear : ByteArray := prog_39_method_77_code
def yX3_isYear : MethodName := ⟨RX3, "isYear", "(I)Z"⟩
def dkwX3_isYear_0 : List UInt8 := [27, 133, 42, 182, 1, 81, 133, 42, 180, 0, 13, 4, 46, 133, 184, 0, 167, 172]
abbrev dktX3_isYear_0 : List UInt8 := dkwX3_isYear_0 ++ []
theorem dksX3_isYear_0 : cX3_isYear.data.toList.drop 0 = dktX3_isYear_0 := by decide +kernel
theorem dX3_isYear_0 : decode cX3_isYear 0 = .ok (.iload_n 1, 1) := dk_27 (dk_at dksX3_isYear_0 0 rfl rfl)
theorem dX3_isYear_1 : decode cX3_isYear 1 = .ok (.i2l, 1) := dk_133 (dk_at dksX3_isYear_0 1 rfl rfl)
theorem dX3_isYear_2 : decode cX3_isYear 2 = .ok (.aload_n 0, 1) := dk_42 (dk_at dksX3_isYear_0 2 rfl rfl)
theorem dX3_isYear_3 : decode cX3_isYear 3 = .ok (.invokevirtual 337, 3) := dk_182 1 81 (dk_at dksX3_isYear_0 3 rfl rfl)
theorem dX3_isYear_6 : decode cX3_isYear 6 = .ok (.i2l, 1) := dk_133 (dk_at dksX3_isYear_0 6 rfl rfl)
theorem dX3_isYear_7 : decode cX3_isYear 7 = .ok (.aload_n 0, 1) := dk_42 (dk_at dksX3_isYear_0 7 rfl rfl)
theorem dX3_isYear_8 : decode cX3_isYear 8 = .ok (.getfield 13, 3) := dk_180 0 13 (dk_at dksX3_isYear_0 8 rfl rfl)
theorem dX3_isYear_11 : decode cX3_isYear 11 = .ok (.iconst 1, 1) := dk_4 (dk_at dksX3_isYear_0 11 rfl rfl)
theorem dX3_isYear_12 : decode cX3_isYear 12 = .ok (.iaload, 1) := dk_46 (dk_at dksX3_isYear_0 12 rfl rfl)
theorem dX3_isYear_13 : decode cX3_isYear 13 = .ok (.i2l, 1) := dk_133 (dk_at dksX3_isYear_0 13 rfl rfl)
theorem dX3_isYear_14 : decode cX3_isYear 14 = .ok (.invokestatic 167, 3) := dk_184 0 167 (dk_at dksX3_isYear_0 14 rfl rfl)
theorem dX3_isYear_17 : decode cX3_isYear 17 = .ok (.ireturn, 1) := dk_172 (dk_at dksX3_isYear_0 17 rfl rfl)
abbrev cX3_ledger : ByteArray := prog_39_method_79_code
def yX3_ledger : MethodName := ⟨RX3, "ledger", "(III)I"⟩
def dkwX3_ledger_2 : List UInt8 := [167, 0, 15, 42, 27, 28, 42, 182, 1, 81, 100, 29, 182, 1, 87, 172]
abbrev dktX3_ledger_2 : List UInt8 := dkwX3_ledger_2 ++ []
def dkwX3_ledger_1 : List UInt8 := [9, 20, 0, 171, 184, 0, 167, 154, 0, 7, 4, 167, 0, 4, 3, 5, 182, 1, 6, 153, 0, 7, 3]
abbrev dktX3_ledger_1 : List UInt8 := dkwX3_ledger_1 ++ dktX3_ledger_2
def dkwX3_ledger_0 : List UInt8 := [42, 3, 181, 0, 3, 42, 27, 182, 1, 55, 154, 0, 36, 42, 42, 28, 182, 1, 84, 153, 0, 15, 29, 133]
abbrev dktX3_ledger_0 : List UInt8 := dkwX3_ledger_0 ++ dktX3_ledger_1
theorem dksX3_ledger_0 : cX3_ledger.data.toList.drop 0 = dktX3_ledger_0 := by decide +kernel
theorem dksX3_ledger_1 : cX3_ledger.data.toList.drop 24 = dktX3_ledger_1 := dk_seg dksX3_ledger_0 24 rfl rfl
theorem dksX3_ledger_2 : cX3_ledger.data.toList.drop 47 = dktX3_ledger_2 := dk_seg dksX3_ledger_1 23 rfl rfl
theorem dX3_ledger_0 : decode cX3_ledger 0 = .ok (.aload_n 0, 1) := dk_42 (dk_at dksX3_ledger_0 0 rfl rfl)
theorem dX3_ledger_1 : decode cX3_ledger 1 = .ok (.iconst 0, 1) := dk_3 (dk_at dksX3_ledger_0 1 rfl rfl)
theorem dX3_ledger_2 : decode cX3_ledger 2 = .ok (.putfield 3, 3) := dk_181 0 3 (dk_at dksX3_ledger_0 2 rfl rfl)
theorem dX3_ledger_5 : decode cX3_ledger 5 = .ok (.aload_n 0, 1) := dk_42 (dk_at dksX3_ledger_0 5 rfl rfl)
theorem dX3_ledger_6 : decode cX3_ledger 6 = .ok (.iload_n 1, 1) := dk_27 (dk_at dksX3_ledger_0 6 rfl rfl)
theorem dX3_ledger_7 : decode cX3_ledger 7 = .ok (.invokevirtual 311, 3) := dk_182 1 55 (dk_at dksX3_ledger_0 7 rfl rfl)
theorem dX3_ledger_10 : decode cX3_ledger 10 = .ok (.ifCond .ne 36, 3) := dk_154 0 36 (dk_at dksX3_ledger_0 10 rfl rfl)
theorem dX3_ledger_13 : decode cX3_ledger 13 = .ok (.aload_n 0, 1) := dk_42 (dk_at dksX3_ledger_0 13 rfl rfl)
theorem dX3_ledger_14 : decode cX3_ledger 14 = .ok (.aload_n 0, 1) := dk_42 (dk_at dksX3_ledger_0 14 rfl rfl)
theorem dX3_ledger_15 : decode cX3_ledger 15 = .ok (.iload_n 2, 1) := dk_28 (dk_at dksX3_ledger_0 15 rfl rfl)
theorem dX3_ledger_16 : decode cX3_ledger 16 = .ok (.invokevirtual 340, 3) := dk_182 1 84 (dk_at dksX3_ledger_0 16 rfl rfl)
theorem dX3_ledger_19 : decode cX3_ledger 19 = .ok (.ifCond .eq 15, 3) := dk_153 0 15 (dk_at dksX3_ledger_0 19 rfl rfl)
theorem dX3_ledger_22 : decode cX3_ledger 22 = .ok (.iload_n 3, 1) := dk_29 (dk_at dksX3_ledger_0 22 rfl rfl)
theorem dX3_ledger_23 : decode cX3_ledger 23 = .ok (.i2l, 1) := dk_133 (dk_at dksX3_ledger_0 23 rfl rfl)
theorem dX3_ledger_24 : decode cX3_ledger 24 = .ok (.lconst 0, 1) := dk_9 (dk_at dksX3_ledger_1 0 rfl rfl)
theorem dX3_ledger_25 : decode cX3_ledger 25 = .ok (.ldc2_w 171, 3) := dk_20 0 171 (dk_at dksX3_ledger_1 1 rfl rfl)
theorem dX3_ledger_28 : decode cX3_ledger 28 = .ok (.invokestatic 167, 3) := dk_184 0 167 (dk_at dksX3_ledger_1 4 rfl rfl)
theorem dX3_ledger_31 : decode cX3_ledger 31 = .ok (.ifCond .ne 7, 3) := dk_154 0 7 (dk_at dksX3_ledger_1 7 rfl rfl)
theorem dX3_ledger_34 : decode cX3_ledger 34 = .ok (.iconst 1, 1) := dk_4 (dk_at dksX3_ledger_1 10 rfl rfl)
theorem dX3_ledger_35 : decode cX3_ledger 35 = .ok (.goto 4, 3) := dk_167 0 4 (dk_at dksX3_ledger_1 11 rfl rfl)
theorem dX3_ledger_38 : decode cX3_ledger 38 = .ok (.iconst 0, 1) := dk_3 (dk_at dksX3_ledger_1 14 rfl rfl)
theorem dX3_ledger_39 : decode cX3_ledger 39 = .ok (.iconst 2, 1) := dk_5 (dk_at dksX3_ledger_1 15 rfl rfl)
theorem dX3_ledger_40 : decode cX3_ledger 40 = .ok (.invokevirtual 262, 3) := dk_182 1 6 (dk_at dksX3_ledger_1 16 rfl rfl)
theorem dX3_ledger_43 : decode cX3_ledger 43 = .ok (.ifCond .eq 7, 3) := dk_153 0 7 (dk_at dksX3_ledger_1 19 rfl rfl)
theorem dX3_ledger_46 : decode cX3_ledger 46 = .ok (.iconst 0, 1) := dk_3 (dk_at dksX3_ledger_1 22 rfl rfl)
theorem dX3_ledger_47 : decode cX3_ledger 47 = .ok (.goto 15, 3) := dk_167 0 15 (dk_at dksX3_ledger_2 0 rfl rfl)
theorem dX3_ledger_50 : decode cX3_ledger 50 = .ok (.aload_n 0, 1) := dk_42 (dk_at dksX3_ledger_2 3 rfl rfl)
theorem dX3_ledger_51 : decode cX3_ledger 51 = .ok (.iload_n 1, 1) := dk_27 (dk_at dksX3_ledger_2 4 rfl rfl)
theorem dX3_ledger_52 : decode cX3_ledger 52 = .ok (.iload_n 2, 1) := dk_28 (dk_at dksX3_ledger_2 5 rfl rfl)
theorem dX3_ledger_53 : decode cX3_ledger 53 = .ok (.aload_n 0, 1) := dk_42 (dk_at dksX3_ledger_2 6 rfl rfl)
theorem dX3_ledger_54 : decode cX3_ledger 54 = .ok (.invokevirtual 337, 3) := dk_182 1 81 (dk_at dksX3_ledger_2 7 rfl rfl)
theorem dX3_ledger_57 : decode cX3_ledger 57 = .ok (.isub, 1) := dk_100 (dk_at dksX3_ledger_2 10 rfl rfl)
theorem dX3_ledger_58 : decode cX3_ledger 58 = .ok (.iload_n 3, 1) := dk_29 (dk_at dksX3_ledger_2 11 rfl rfl)
theorem dX3_ledger_59 : decode cX3_ledger 59 = .ok (.invokevirtual 343, 3) := dk_182 1 87 (dk_at dksX3_ledger_2 12 rfl rfl)
theorem dX3_ledger_62 : decode cX3_ledger 62 = .ok (.ireturn, 1) := dk_172 (dk_at dksX3_ledger_2 15 rfl rfl)
abbrev cJ12_min : ByteArray := prog_56_method_69_code
def yJ12_min : MethodName := ⟨RJ12, "min", "(II)I"⟩
def dkwJ12_min_0 : List UInt8 := [26, 27, 163, 0, 7, 26, 167, 0, 4, 27, 172]
abbrev dktJ12_min_0 : List UInt8 := dkwJ12_min_0 ++ []
theorem dksJ12_min_0 : cJ12_min.data.toList.drop 0 = dktJ12_min_0 := by decide +kernel
theorem dJ12_min_0 : decode cJ12_min 0 = .ok (.iload_n 0, 1) := dk_26 (dk_at dksJ12_min_0 0 rfl rfl)
theorem dJ12_min_1 : decode cJ12_min 1 = .ok (.iload_n 1, 1) := dk_27 (dk_at dksJ12_min_0 1 rfl rfl)
theorem dJ12_min_2 : decode cJ12_min 2 = .ok (.if_icmp .gt 7, 3) := dk_163 0 7 (dk_at dksJ12_min_0 2 rfl rfl)
theorem dJ12_min_5 : decode cJ12_min 5 = .ok (.iload_n 0, 1) := dk_26 (dk_at dksJ12_min_0 5 rfl rfl)
theorem dJ12_min_6 : decode cJ12_min 6 = .ok (.goto 4, 3) := dk_167 0 4 (dk_at dksJ12_min_0 6 rfl rfl)
theorem dJ12_min_9 : decode cJ12_min 9 = .ok (.iload_n 1, 1) := dk_27 (dk_at dksJ12_min_0 9 rfl rfl)
theorem dJ12_min_10 : decode cJ12_min 10 = .ok (.ireturn, 1) := dk_172 (dk_at dksJ12_min_0 10 rfl rfl)
abbrev cX3_closingUpTo : ByteArray := prog_39_method_80_code
def yX3_closingUpTo : MethodName := ⟨RX3, "closingUpTo", "(II)I"⟩
def dkwX3_closingUpTo_2 : List UInt8 := [167, 0, 15, 42, 27, 29, 42, 182, 1, 81, 100, 8, 182, 1, 87, 172]
abbrev dktX3_closingUpTo_2 : List UInt8 := dkwX3_closingUpTo_2 ++ []
def dkwX3_closingUpTo_1 : List UInt8 := [184, 1, 23, 62, 42, 180, 0, 13, 5, 46, 153, 0, 11, 29, 42, 182, 1, 81, 162, 0, 7, 2]
abbrev dktX3_closingUpTo_1 : List UInt8 := dkwX3_closingUpTo_1 ++ dktX3_closingUpTo_2
def dkwX3_closingUpTo_0 : List UInt8 := [42, 3, 181, 0, 3, 42, 27, 182, 1, 55, 153, 0, 5, 3, 172, 28, 42, 180, 0, 13, 4, 46, 4, 100]
abbrev dktX3_closingUpTo_0 : List UInt8 := dkwX3_closingUpTo_0 ++ dktX3_closingUpTo_1
theorem dksX3_closingUpTo_0 : cX3_closingUpTo.data.toList.drop 0 = dktX3_closingUpTo_0 := by decide +kernel
theorem dksX3_closingUpTo_1 : cX3_closingUpTo.data.toList.drop 24 = dktX3_closingUpTo_1 := dk_seg dksX3_closingUpTo_0 24 rfl rfl
theorem dksX3_closingUpTo_2 : cX3_closingUpTo.data.toList.drop 46 = dktX3_closingUpTo_2 := dk_seg dksX3_closingUpTo_1 22 rfl rfl
theorem dX3_closingUpTo_0 : decode cX3_closingUpTo 0 = .ok (.aload_n 0, 1) := dk_42 (dk_at dksX3_closingUpTo_0 0 rfl rfl)
theorem dX3_closingUpTo_1 : decode cX3_closingUpTo 1 = .ok (.iconst 0, 1) := dk_3 (dk_at dksX3_closingUpTo_0 1 rfl rfl)
theorem dX3_closingUpTo_2 : decode cX3_closingUpTo 2 = .ok (.putfield 3, 3) := dk_181 0 3 (dk_at dksX3_closingUpTo_0 2 rfl rfl)
theorem dX3_closingUpTo_5 : decode cX3_closingUpTo 5 = .ok (.aload_n 0, 1) := dk_42 (dk_at dksX3_closingUpTo_0 5 rfl rfl)
theorem dX3_closingUpTo_6 : decode cX3_closingUpTo 6 = .ok (.iload_n 1, 1) := dk_27 (dk_at dksX3_closingUpTo_0 6 rfl rfl)
theorem dX3_closingUpTo_7 : decode cX3_closingUpTo 7 = .ok (.invokevirtual 311, 3) := dk_182 1 55 (dk_at dksX3_closingUpTo_0 7 rfl rfl)
theorem dX3_closingUpTo_10 : decode cX3_closingUpTo 10 = .ok (.ifCond .eq 5, 3) := dk_153 0 5 (dk_at dksX3_closingUpTo_0 10 rfl rfl)
theorem dX3_closingUpTo_13 : decode cX3_closingUpTo 13 = .ok (.iconst 0, 1) := dk_3 (dk_at dksX3_closingUpTo_0 13 rfl rfl)
theorem dX3_closingUpTo_14 : decode cX3_closingUpTo 14 = .ok (.ireturn, 1) := dk_172 (dk_at dksX3_closingUpTo_0 14 rfl rfl)
theorem dX3_closingUpTo_15 : decode cX3_closingUpTo 15 = .ok (.iload_n 2, 1) := dk_28 (dk_at dksX3_closingUpTo_0 15 rfl rfl)
theorem dX3_closingUpTo_16 : decode cX3_closingUpTo 16 = .ok (.aload_n 0, 1) := dk_42 (dk_at dksX3_closingUpTo_0 16 rfl rfl)
theorem dX3_closingUpTo_17 : decode cX3_closingUpTo 17 = .ok (.getfield 13, 3) := dk_180 0 13 (dk_at dksX3_closingUpTo_0 17 rfl rfl)
theorem dX3_closingUpTo_20 : decode cX3_closingUpTo 20 = .ok (.iconst 1, 1) := dk_4 (dk_at dksX3_closingUpTo_0 20 rfl rfl)
theorem dX3_closingUpTo_21 : decode cX3_closingUpTo 21 = .ok (.iaload, 1) := dk_46 (dk_at dksX3_closingUpTo_0 21 rfl rfl)
theorem dX3_closingUpTo_22 : decode cX3_closingUpTo 22 = .ok (.iconst 1, 1) := dk_4 (dk_at dksX3_closingUpTo_0 22 rfl rfl)
theorem dX3_closingUpTo_23 : decode cX3_closingUpTo 23 = .ok (.isub, 1) := dk_100 (dk_at dksX3_closingUpTo_0 23 rfl rfl)
theorem dX3_closingUpTo_24 : decode cX3_closingUpTo 24 = .ok (.invokestatic 279, 3) := dk_184 1 23 (dk_at dksX3_closingUpTo_1 0 rfl rfl)
theorem dX3_closingUpTo_27 : decode cX3_closingUpTo 27 = .ok (.istore_n 3, 1) := dk_62 (dk_at dksX3_closingUpTo_1 3 rfl rfl)
theorem dX3_closingUpTo_28 : decode cX3_closingUpTo 28 = .ok (.aload_n 0, 1) := dk_42 (dk_at dksX3_closingUpTo_1 4 rfl rfl)
theorem dX3_closingUpTo_29 : decode cX3_closingUpTo 29 = .ok (.getfield 13, 3) := dk_180 0 13 (dk_at dksX3_closingUpTo_1 5 rfl rfl)
theorem dX3_closingUpTo_32 : decode cX3_closingUpTo 32 = .ok (.iconst 2, 1) := dk_5 (dk_at dksX3_closingUpTo_1 8 rfl rfl)
theorem dX3_closingUpTo_33 : decode cX3_closingUpTo 33 = .ok (.iaload, 1) := dk_46 (dk_at dksX3_closingUpTo_1 9 rfl rfl)
theorem dX3_closingUpTo_34 : decode cX3_closingUpTo 34 = .ok (.ifCond .eq 11, 3) := dk_153 0 11 (dk_at dksX3_closingUpTo_1 10 rfl rfl)
theorem dX3_closingUpTo_37 : decode cX3_closingUpTo 37 = .ok (.iload_n 3, 1) := dk_29 (dk_at dksX3_closingUpTo_1 13 rfl rfl)
theorem dX3_closingUpTo_38 : decode cX3_closingUpTo 38 = .ok (.aload_n 0, 1) := dk_42 (dk_at dksX3_closingUpTo_1 14 rfl rfl)
theorem dX3_closingUpTo_39 : decode cX3_closingUpTo 39 = .ok (.invokevirtual 337, 3) := dk_182 1 81 (dk_at dksX3_closingUpTo_1 15 rfl rfl)
theorem dX3_closingUpTo_42 : decode cX3_closingUpTo 42 = .ok (.if_icmp .ge 7, 3) := dk_162 0 7 (dk_at dksX3_closingUpTo_1 18 rfl rfl)
theorem dX3_closingUpTo_45 : decode cX3_closingUpTo 45 = .ok (.iconst (-1), 1) := dk_2 (dk_at dksX3_closingUpTo_1 21 rfl rfl)
theorem dX3_closingUpTo_46 : decode cX3_closingUpTo 46 = .ok (.goto 15, 3) := dk_167 0 15 (dk_at dksX3_closingUpTo_2 0 rfl rfl)
theorem dX3_closingUpTo_49 : decode cX3_closingUpTo 49 = .ok (.aload_n 0, 1) := dk_42 (dk_at dksX3_closingUpTo_2 3 rfl rfl)
theorem dX3_closingUpTo_50 : decode cX3_closingUpTo 50 = .ok (.iload_n 1, 1) := dk_27 (dk_at dksX3_closingUpTo_2 4 rfl rfl)
theorem dX3_closingUpTo_51 : decode cX3_closingUpTo 51 = .ok (.iload_n 3, 1) := dk_29 (dk_at dksX3_closingUpTo_2 5 rfl rfl)
theorem dX3_closingUpTo_52 : decode cX3_closingUpTo 52 = .ok (.aload_n 0, 1) := dk_42 (dk_at dksX3_closingUpTo_2 6 rfl rfl)
theorem dX3_closingUpTo_53 : decode cX3_closingUpTo 53 = .ok (.invokevirtual 337, 3) := dk_182 1 81 (dk_at dksX3_closingUpTo_2 7 rfl rfl)
theorem dX3_closingUpTo_56 : decode cX3_closingUpTo 56 = .ok (.isub, 1) := dk_100 (dk_at dksX3_closingUpTo_2 10 rfl rfl)
theorem dX3_closingUpTo_57 : decode cX3_closingUpTo 57 = .ok (.iconst 5, 1) := dk_8 (dk_at dksX3_closingUpTo_2 11 rfl rfl)
theorem dX3_closingUpTo_58 : decode cX3_closingUpTo 58 = .ok (.invokevirtual 343, 3) := dk_182 1 87 (dk_at dksX3_closingUpTo_2 12 rfl rfl)
theorem dX3_closingUpTo_61 : decode cX3_closingUpTo 61 = .ok (.ireturn, 1) := dk_172 (dk_at dksX3_closingUpTo_2 15 rfl rfl)
abbrev cX3_worstYear : ByteArray := prog_39_method_81_code
def yX3_worstYear : MethodName := ⟨RX3, "worstYear", "(I)I"⟩
def dkwX3_worstYear_3 : List UInt8 := [28, 96, 172]
abbrev dktX3_worstYear_3 : List UInt8 := dkwX3_worstYear_3 ++ []
def dkwX3_worstYear_2 : List UInt8 := [163, 0, 5, 29, 61, 132, 3, 1, 167, 255, 219, 28, 2, 160, 0, 7, 2, 167, 0, 9, 42, 182, 1, 81]
abbrev dktX3_worstYear_2 : List UInt8 := dkwX3_worstYear_2 ++ dktX3_worstYear_3
def dkwX3_worstYear_1 : List UInt8 := [5, 46, 162, 0, 33, 28, 2, 159, 0, 20, 42, 27, 29, 8, 182, 1, 87, 42, 27, 28, 8, 182, 1, 87]
abbrev dktX3_worstYear_1 : List UInt8 := dkwX3_worstYear_1 ++ dktX3_worstYear_2
def dkwX3_worstYear_0 : List UInt8 := [42, 3, 181, 0, 3, 42, 27, 182, 1, 55, 153, 0, 5, 3, 172, 2, 61, 3, 62, 29, 42, 180, 0, 13]
abbrev dktX3_worstYear_0 : List UInt8 := dkwX3_worstYear_0 ++ dktX3_worstYear_1
theorem dksX3_worstYear_0 : cX3_worstYear.data.toList.drop 0 = dktX3_worstYear_0 := by decide +kernel
theorem dksX3_worstYear_1 : cX3_worstYear.data.toList.drop 24 = dktX3_worstYear_1 := dk_seg dksX3_worstYear_0 24 rfl rfl
theorem dksX3_worstYear_2 : cX3_worstYear.data.toList.drop 48 = dktX3_worstYear_2 := dk_seg dksX3_worstYear_1 24 rfl rfl
theorem dksX3_worstYear_3 : cX3_worstYear.data.toList.drop 72 = dktX3_worstYear_3 := dk_seg dksX3_worstYear_2 24 rfl rfl
theorem dX3_worstYear_0 : decode cX3_worstYear 0 = .ok (.aload_n 0, 1) := dk_42 (dk_at dksX3_worstYear_0 0 rfl rfl)
theorem dX3_worstYear_1 : decode cX3_worstYear 1 = .ok (.iconst 0, 1) := dk_3 (dk_at dksX3_worstYear_0 1 rfl rfl)
theorem dX3_worstYear_2 : decode cX3_worstYear 2 = .ok (.putfield 3, 3) := dk_181 0 3 (dk_at dksX3_worstYear_0 2 rfl rfl)
theorem dX3_worstYear_5 : decode cX3_worstYear 5 = .ok (.aload_n 0, 1) := dk_42 (dk_at dksX3_worstYear_0 5 rfl rfl)
theorem dX3_worstYear_6 : decode cX3_worstYear 6 = .ok (.iload_n 1, 1) := dk_27 (dk_at dksX3_worstYear_0 6 rfl rfl)
theorem dX3_worstYear_7 : decode cX3_worstYear 7 = .ok (.invokevirtual 311, 3) := dk_182 1 55 (dk_at dksX3_worstYear_0 7 rfl rfl)
theorem dX3_worstYear_10 : decode cX3_worstYear 10 = .ok (.ifCond .eq 5, 3) := dk_153 0 5 (dk_at dksX3_worstYear_0 10 rfl rfl)
theorem dX3_worstYear_13 : decode cX3_worstYear 13 = .ok (.iconst 0, 1) := dk_3 (dk_at dksX3_worstYear_0 13 rfl rfl)
theorem dX3_worstYear_14 : decode cX3_worstYear 14 = .ok (.ireturn, 1) := dk_172 (dk_at dksX3_worstYear_0 14 rfl rfl)
theorem dX3_worstYear_15 : decode cX3_worstYear 15 = .ok (.iconst (-1), 1) := dk_2 (dk_at dksX3_worstYear_0 15 rfl rfl)
theorem dX3_worstYear_16 : decode cX3_worstYear 16 = .ok (.istore_n 2, 1) := dk_61 (dk_at dksX3_worstYear_0 16 rfl rfl)
theorem dX3_worstYear_17 : decode cX3_worstYear 17 = .ok (.iconst 0, 1) := dk_3 (dk_at dksX3_worstYear_0 17 rfl rfl)
theorem dX3_worstYear_18 : decode cX3_worstYear 18 = .ok (.istore_n 3, 1) := dk_62 (dk_at dksX3_worstYear_0 18 rfl rfl)
theorem dX3_worstYear_19 : decode cX3_worstYear 19 = .ok (.iload_n 3, 1) := dk_29 (dk_at dksX3_worstYear_0 19 rfl rfl)
theorem dX3_worstYear_20 : decode cX3_worstYear 20 = .ok (.aload_n 0, 1) := dk_42 (dk_at dksX3_worstYear_0 20 rfl rfl)
theorem dX3_worstYear_21 : decode cX3_worstYear 21 = .ok (.getfield 13, 3) := dk_180 0 13 (dk_at dksX3_worstYear_0 21 rfl rfl)
theorem dX3_worstYear_24 : decode cX3_worstYear 24 = .ok (.iconst 2, 1) := dk_5 (dk_at dksX3_worstYear_1 0 rfl rfl)
theorem dX3_worstYear_25 : decode cX3_worstYear 25 = .ok (.iaload, 1) := dk_46 (dk_at dksX3_worstYear_1 1 rfl rfl)
theorem dX3_worstYear_26 : decode cX3_worstYear 26 = .ok (.if_icmp .ge 33, 3) := dk_162 0 33 (dk_at dksX3_worstYear_1 2 rfl rfl)
theorem dX3_worstYear_29 : decode cX3_worstYear 29 = .ok (.iload_n 2, 1) := dk_28 (dk_at dksX3_worstYear_1 5 rfl rfl)
theorem dX3_worstYear_30 : decode cX3_worstYear 30 = .ok (.iconst (-1), 1) := dk_2 (dk_at dksX3_worstYear_1 6 rfl rfl)
theorem dX3_worstYear_31 : decode cX3_worstYear 31 = .ok (.if_icmp .eq 20, 3) := dk_159 0 20 (dk_at dksX3_worstYear_1 7 rfl rfl)
theorem dX3_worstYear_34 : decode cX3_worstYear 34 = .ok (.aload_n 0, 1) := dk_42 (dk_at dksX3_worstYear_1 10 rfl rfl)
theorem dX3_worstYear_35 : decode cX3_worstYear 35 = .ok (.iload_n 1, 1) := dk_27 (dk_at dksX3_worstYear_1 11 rfl rfl)
theorem dX3_worstYear_36 : decode cX3_worstYear 36 = .ok (.iload_n 3, 1) := dk_29 (dk_at dksX3_worstYear_1 12 rfl rfl)
theorem dX3_worstYear_37 : decode cX3_worstYear 37 = .ok (.iconst 5, 1) := dk_8 (dk_at dksX3_worstYear_1 13 rfl rfl)
theorem dX3_worstYear_38 : decode cX3_worstYear 38 = .ok (.invokevirtual 343, 3) := dk_182 1 87 (dk_at dksX3_worstYear_1 14 rfl rfl)
theorem dX3_worstYear_41 : decode cX3_worstYear 41 = .ok (.aload_n 0, 1) := dk_42 (dk_at dksX3_worstYear_1 17 rfl rfl)
theorem dX3_worstYear_42 : decode cX3_worstYear 42 = .ok (.iload_n 1, 1) := dk_27 (dk_at dksX3_worstYear_1 18 rfl rfl)
theorem dX3_worstYear_43 : decode cX3_worstYear 43 = .ok (.iload_n 2, 1) := dk_28 (dk_at dksX3_worstYear_1 19 rfl rfl)
theorem dX3_worstYear_44 : decode cX3_worstYear 44 = .ok (.iconst 5, 1) := dk_8 (dk_at dksX3_worstYear_1 20 rfl rfl)
theorem dX3_worstYear_45 : decode cX3_worstYear 45 = .ok (.invokevirtual 343, 3) := dk_182 1 87 (dk_at dksX3_worstYear_1 21 rfl rfl)
theorem dX3_worstYear_48 : decode cX3_worstYear 48 = .ok (.if_icmp .gt 5, 3) := dk_163 0 5 (dk_at dksX3_worstYear_2 0 rfl rfl)
theorem dX3_worstYear_51 : decode cX3_worstYear 51 = .ok (.iload_n 3, 1) := dk_29 (dk_at dksX3_worstYear_2 3 rfl rfl)
theorem dX3_worstYear_52 : decode cX3_worstYear 52 = .ok (.istore_n 2, 1) := dk_61 (dk_at dksX3_worstYear_2 4 rfl rfl)
theorem dX3_worstYear_53 : decode cX3_worstYear 53 = .ok (.iinc 3 1, 3) := dk_132 3 1 (dk_at dksX3_worstYear_2 5 rfl rfl)
theorem dX3_worstYear_56 : decode cX3_worstYear 56 = .ok (.goto (-37), 3) := dk_167 255 219 (dk_at dksX3_worstYear_2 8 rfl rfl)
theorem dX3_worstYear_59 : decode cX3_worstYear 59 = .ok (.iload_n 2, 1) := dk_28 (dk_at dksX3_worstYear_2 11 rfl rfl)
theorem dX3_worstYear_60 : decode cX3_worstYear 60 = .ok (.iconst (-1), 1) := dk_2 (dk_at dksX3_worstYear_2 12 rfl rfl)
theorem dX3_worstYear_61 : decode cX3_worstYear 61 = .ok (.if_icmp .ne 7, 3) := dk_160 0 7 (dk_at dksX3_worstYear_2 13 rfl rfl)
theorem dX3_worstYear_64 : decode cX3_worstYear 64 = .ok (.iconst (-1), 1) := dk_2 (dk_at dksX3_worstYear_2 16 rfl rfl)
theorem dX3_worstYear_65 : decode cX3_worstYear 65 = .ok (.goto 9, 3) := dk_167 0 9 (dk_at dksX3_worstYear_2 17 rfl rfl)
theorem dX3_worstYear_68 : decode cX3_worstYear 68 = .ok (.aload_n 0, 1) := dk_42 (dk_at dksX3_worstYear_2 20 rfl rfl)
theorem dX3_worstYear_69 : decode cX3_worstYear 69 = .ok (.invokevirtual 337, 3) := dk_182 1 81 (dk_at dksX3_worstYear_2 21 rfl rfl)
theorem dX3_worstYear_72 : decode cX3_worstYear 72 = .ok (.iload_n 2, 1) := dk_28 (dk_at dksX3_worstYear_3 0 rfl rfl)
theorem dX3_worstYear_73 : decode cX3_worstYear 73 = .ok (.iadd, 1) := dk_96 (dk_at dksX3_worstYear_3 1 rfl rfl)
theorem dX3_worstYear_74 : decode cX3_worstYear 74 = .ok (.ireturn, 1) := dk_172 (dk_at dksX3_worstYear_3 2 rfl rfl)
abbrev cX3_sum : ByteArray := prog_39_method_82_code
def yX3_sum : MethodName := ⟨RX3, "sum", "(II)J"⟩
def dkwX3_sum_3 : List UInt8 := [167, 255, 230, 33, 173]
abbrev dktX3_sum_3 : List UInt8 := dkwX3_sum_3 ++ []
def dkwX3_sum_2 : List UInt8 := [42, 180, 0, 13, 5, 46, 163, 0, 21, 33, 42, 27, 21, 5, 28, 182, 1, 87, 133, 97, 66, 132, 5, 1]
abbrev dktX3_sum_2 : List UInt8 := dkwX3_sum_2 ++ dktX3_sum_3
def dkwX3_sum_1 : List UInt8 := [154, 0, 7, 4, 167, 0, 4, 3, 5, 182, 1, 6, 153, 0, 5, 9, 173, 9, 66, 3, 54, 5, 21, 5]
abbrev dktX3_sum_1 : List UInt8 := dkwX3_sum_1 ++ dktX3_sum_2
def dkwX3_sum_0 : List UInt8 := [42, 3, 181, 0, 3, 42, 27, 182, 1, 55, 154, 0, 28, 42, 28, 133, 10, 20, 1, 91, 184, 0, 167]
abbrev dktX3_sum_0 : List UInt8 := dkwX3_sum_0 ++ dktX3_sum_1
theorem dksX3_sum_0 : cX3_sum.data.toList.drop 0 = dktX3_sum_0 := by decide +kernel
theorem dksX3_sum_1 : cX3_sum.data.toList.drop 23 = dktX3_sum_1 := dk_seg dksX3_sum_0 23 rfl rfl
theorem dksX3_sum_2 : cX3_sum.data.toList.drop 47 = dktX3_sum_2 := dk_seg dksX3_sum_1 24 rfl rfl
theorem dksX3_sum_3 : cX3_sum.data.toList.drop 71 = dktX3_sum_3 := dk_seg dksX3_sum_2 24 rfl rfl
theorem dX3_sum_0 : decode cX3_sum 0 = .ok (.aload_n 0, 1) := dk_42 (dk_at dksX3_sum_0 0 rfl rfl)
theorem dX3_sum_1 : decode cX3_sum 1 = .ok (.iconst 0, 1) := dk_3 (dk_at dksX3_sum_0 1 rfl rfl)
theorem dX3_sum_2 : decode cX3_sum 2 = .ok (.putfield 3, 3) := dk_181 0 3 (dk_at dksX3_sum_0 2 rfl rfl)
theorem dX3_sum_5 : decode cX3_sum 5 = .ok (.aload_n 0, 1) := dk_42 (dk_at dksX3_sum_0 5 rfl rfl)
theorem dX3_sum_6 : decode cX3_sum 6 = .ok (.iload_n 1, 1) := dk_27 (dk_at dksX3_sum_0 6 rfl rfl)
theorem dX3_sum_7 : decode cX3_sum 7 = .ok (.invokevirtual 311, 3) := dk_182 1 55 (dk_at dksX3_sum_0 7 rfl rfl)
theorem dX3_sum_10 : decode cX3_sum 10 = .ok (.ifCond .ne 28, 3) := dk_154 0 28 (dk_at dksX3_sum_0 10 rfl rfl)
theorem dX3_sum_13 : decode cX3_sum 13 = .ok (.aload_n 0, 1) := dk_42 (dk_at dksX3_sum_0 13 rfl rfl)
theorem dX3_sum_14 : decode cX3_sum 14 = .ok (.iload_n 2, 1) := dk_28 (dk_at dksX3_sum_0 14 rfl rfl)
theorem dX3_sum_15 : decode cX3_sum 15 = .ok (.i2l, 1) := dk_133 (dk_at dksX3_sum_0 15 rfl rfl)
theorem dX3_sum_16 : decode cX3_sum 16 = .ok (.lconst 1, 1) := dk_10 (dk_at dksX3_sum_0 16 rfl rfl)
theorem dX3_sum_17 : decode cX3_sum 17 = .ok (.ldc2_w 347, 3) := dk_20 1 91 (dk_at dksX3_sum_0 17 rfl rfl)
theorem dX3_sum_20 : decode cX3_sum 20 = .ok (.invokestatic 167, 3) := dk_184 0 167 (dk_at dksX3_sum_0 20 rfl rfl)
theorem dX3_sum_23 : decode cX3_sum 23 = .ok (.ifCond .ne 7, 3) := dk_154 0 7 (dk_at dksX3_sum_1 0 rfl rfl)
theorem dX3_sum_26 : decode cX3_sum 26 = .ok (.iconst 1, 1) := dk_4 (dk_at dksX3_sum_1 3 rfl rfl)
theorem dX3_sum_27 : decode cX3_sum 27 = .ok (.goto 4, 3) := dk_167 0 4 (dk_at dksX3_sum_1 4 rfl rfl)
theorem dX3_sum_30 : decode cX3_sum 30 = .ok (.iconst 0, 1) := dk_3 (dk_at dksX3_sum_1 7 rfl rfl)
theorem dX3_sum_31 : decode cX3_sum 31 = .ok (.iconst 2, 1) := dk_5 (dk_at dksX3_sum_1 8 rfl rfl)
theorem dX3_sum_32 : decode cX3_sum 32 = .ok (.invokevirtual 262, 3) := dk_182 1 6 (dk_at dksX3_sum_1 9 rfl rfl)
theorem dX3_sum_35 : decode cX3_sum 35 = .ok (.ifCond .eq 5, 3) := dk_153 0 5 (dk_at dksX3_sum_1 12 rfl rfl)
theorem dX3_sum_38 : decode cX3_sum 38 = .ok (.lconst 0, 1) := dk_9 (dk_at dksX3_sum_1 15 rfl rfl)
theorem dX3_sum_39 : decode cX3_sum 39 = .ok (.lreturn, 1) := dk_173 (dk_at dksX3_sum_1 16 rfl rfl)
theorem dX3_sum_40 : decode cX3_sum 40 = .ok (.lconst 0, 1) := dk_9 (dk_at dksX3_sum_1 17 rfl rfl)
theorem dX3_sum_41 : decode cX3_sum 41 = .ok (.lstore_n 3, 1) := dk_66 (dk_at dksX3_sum_1 18 rfl rfl)
theorem dX3_sum_42 : decode cX3_sum 42 = .ok (.iconst 0, 1) := dk_3 (dk_at dksX3_sum_1 19 rfl rfl)
theorem dX3_sum_43 : decode cX3_sum 43 = .ok (.istore 5, 2) := dk_54 5 (dk_at dksX3_sum_1 20 rfl rfl)
theorem dX3_sum_45 : decode cX3_sum 45 = .ok (.iload 5, 2) := dk_21 5 (dk_at dksX3_sum_1 22 rfl rfl)
theorem dX3_sum_47 : decode cX3_sum 47 = .ok (.aload_n 0, 1) := dk_42 (dk_at dksX3_sum_2 0 rfl rfl)
theorem dX3_sum_48 : decode cX3_sum 48 = .ok (.getfield 13, 3) := dk_180 0 13 (dk_at dksX3_sum_2 1 rfl rfl)
theorem dX3_sum_51 : decode cX3_sum 51 = .ok (.iconst 2, 1) := dk_5 (dk_at dksX3_sum_2 4 rfl rfl)
theorem dX3_sum_52 : decode cX3_sum 52 = .ok (.iaload, 1) := dk_46 (dk_at dksX3_sum_2 5 rfl rfl)
theorem dX3_sum_53 : decode cX3_sum 53 = .ok (.if_icmp .gt 21, 3) := dk_163 0 21 (dk_at dksX3_sum_2 6 rfl rfl)
theorem dX3_sum_56 : decode cX3_sum 56 = .ok (.lload_n 3, 1) := dk_33 (dk_at dksX3_sum_2 9 rfl rfl)
theorem dX3_sum_57 : decode cX3_sum 57 = .ok (.aload_n 0, 1) := dk_42 (dk_at dksX3_sum_2 10 rfl rfl)
theorem dX3_sum_58 : decode cX3_sum 58 = .ok (.iload_n 1, 1) := dk_27 (dk_at dksX3_sum_2 11 rfl rfl)
theorem dX3_sum_59 : decode cX3_sum 59 = .ok (.iload 5, 2) := dk_21 5 (dk_at dksX3_sum_2 12 rfl rfl)
theorem dX3_sum_61 : decode cX3_sum 61 = .ok (.iload_n 2, 1) := dk_28 (dk_at dksX3_sum_2 14 rfl rfl)
theorem dX3_sum_62 : decode cX3_sum 62 = .ok (.invokevirtual 343, 3) := dk_182 1 87 (dk_at dksX3_sum_2 15 rfl rfl)
theorem dX3_sum_65 : decode cX3_sum 65 = .ok (.i2l, 1) := dk_133 (dk_at dksX3_sum_2 18 rfl rfl)
theorem dX3_sum_66 : decode cX3_sum 66 = .ok (.ladd, 1) := dk_97 (dk_at dksX3_sum_2 19 rfl rfl)
theorem dX3_sum_67 : decode cX3_sum 67 = .ok (.lstore_n 3, 1) := dk_66 (dk_at dksX3_sum_2 20 rfl rfl)
theorem dX3_sum_68 : decode cX3_sum 68 = .ok (.iinc 5 1, 3) := dk_132 5 1 (dk_at dksX3_sum_2 21 rfl rfl)
theorem dX3_sum_71 : decode cX3_sum 71 = .ok (.goto (-26), 3) := dk_167 255 230 (dk_at dksX3_sum_3 0 rfl rfl)
theorem dX3_sum_74 : decode cX3_sum 74 = .ok (.lload_n 3, 1) := dk_33 (dk_at dksX3_sum_3 3 rfl rfl)
theorem dX3_sum_75 : decode cX3_sum 75 = .ok (.lreturn, 1) := dk_173 (dk_at dksX3_sum_3 4 rfl rfl)
abbrev cX3_isGood : ByteArray := prog_39_method_83_code
def yX3_isGood : MethodName := ⟨RX3, "isGood", "(II)Z"⟩
def dkwX3_isGood_3 : List UInt8 := [182, 1, 87, 42, 27, 28, 4, 96, 3, 182, 1, 87, 160, 0, 7, 4, 167, 0, 4, 3, 172]
abbrev dktX3_isGood_3 : List UInt8 := dkwX3_isGood_3 ++ []
def dkwX3_isGood_2 : List UInt8 := [28, 8, 182, 1, 87, 133, 148, 154, 0, 36, 28, 42, 180, 0, 13, 5, 46, 159, 0, 22, 42, 27, 28, 8]
abbrev dktX3_isGood_2 : List UInt8 := dkwX3_isGood_2 ++ dktX3_isGood_3
def dkwX3_isGood_1 : List UInt8 := [133, 97, 42, 27, 28, 5, 182, 1, 87, 133, 101, 42, 27, 28, 6, 182, 1, 87, 133, 101, 66, 33, 42, 27]
abbrev dktX3_isGood_1 : List UInt8 := dkwX3_isGood_1 ++ dktX3_isGood_2
def dkwX3_isGood_0 : List UInt8 := [42, 27, 28, 3, 182, 1, 87, 133, 42, 27, 28, 4, 182, 1, 87, 133, 97, 42, 27, 28, 7, 182, 1, 87]
abbrev dktX3_isGood_0 : List UInt8 := dkwX3_isGood_0 ++ dktX3_isGood_1
theorem dksX3_isGood_0 : cX3_isGood.data.toList.drop 0 = dktX3_isGood_0 := by decide +kernel
theorem dksX3_isGood_1 : cX3_isGood.data.toList.drop 24 = dktX3_isGood_1 := dk_seg dksX3_isGood_0 24 rfl rfl
theorem dksX3_isGood_2 : cX3_isGood.data.toList.drop 48 = dktX3_isGood_2 := dk_seg dksX3_isGood_1 24 rfl rfl
theorem dksX3_isGood_3 : cX3_isGood.data.toList.drop 72 = dktX3_isGood_3 := dk_seg dksX3_isGood_2 24 rfl rfl
theorem dX3_isGood_0 : decode cX3_isGood 0 = .ok (.aload_n 0, 1) := dk_42 (dk_at dksX3_isGood_0 0 rfl rfl)
theorem dX3_isGood_1 : decode cX3_isGood 1 = .ok (.iload_n 1, 1) := dk_27 (dk_at dksX3_isGood_0 1 rfl rfl)
theorem dX3_isGood_2 : decode cX3_isGood 2 = .ok (.iload_n 2, 1) := dk_28 (dk_at dksX3_isGood_0 2 rfl rfl)
theorem dX3_isGood_3 : decode cX3_isGood 3 = .ok (.iconst 0, 1) := dk_3 (dk_at dksX3_isGood_0 3 rfl rfl)
theorem dX3_isGood_4 : decode cX3_isGood 4 = .ok (.invokevirtual 343, 3) := dk_182 1 87 (dk_at dksX3_isGood_0 4 rfl rfl)
theorem dX3_isGood_7 : decode cX3_isGood 7 = .ok (.i2l, 1) := dk_133 (dk_at dksX3_isGood_0 7 rfl rfl)
theorem dX3_isGood_8 : decode cX3_isGood 8 = .ok (.aload_n 0, 1) := dk_42 (dk_at dksX3_isGood_0 8 rfl rfl)
theorem dX3_isGood_9 : decode cX3_isGood 9 = .ok (.iload_n 1, 1) := dk_27 (dk_at dksX3_isGood_0 9 rfl rfl)
theorem dX3_isGood_10 : decode cX3_isGood 10 = .ok (.iload_n 2, 1) := dk_28 (dk_at dksX3_isGood_0 10 rfl rfl)
theorem dX3_isGood_11 : decode cX3_isGood 11 = .ok (.iconst 1, 1) := dk_4 (dk_at dksX3_isGood_0 11 rfl rfl)
theorem dX3_isGood_12 : decode cX3_isGood 12 = .ok (.invokevirtual 343, 3) := dk_182 1 87 (dk_at dksX3_isGood_0 12 rfl rfl)
theorem dX3_isGood_15 : decode cX3_isGood 15 = .ok (.i2l, 1) := dk_133 (dk_at dksX3_isGood_0 15 rfl rfl)
theorem dX3_isGood_16 : decode cX3_isGood 16 = .ok (.ladd, 1) := dk_97 (dk_at dksX3_isGood_0 16 rfl rfl)
theorem dX3_isGood_17 : decode cX3_isGood 17 = .ok (.aload_n 0, 1) := dk_42 (dk_at dksX3_isGood_0 17 rfl rfl)
theorem dX3_isGood_18 : decode cX3_isGood 18 = .ok (.iload_n 1, 1) := dk_27 (dk_at dksX3_isGood_0 18 rfl rfl)
theorem dX3_isGood_19 : decode cX3_isGood 19 = .ok (.iload_n 2, 1) := dk_28 (dk_at dksX3_isGood_0 19 rfl rfl)
theorem dX3_isGood_20 : decode cX3_isGood 20 = .ok (.iconst 4, 1) := dk_7 (dk_at dksX3_isGood_0 20 rfl rfl)
theorem dX3_isGood_21 : decode cX3_isGood 21 = .ok (.invokevirtual 343, 3) := dk_182 1 87 (dk_at dksX3_isGood_0 21 rfl rfl)
theorem dX3_isGood_24 : decode cX3_isGood 24 = .ok (.i2l, 1) := dk_133 (dk_at dksX3_isGood_1 0 rfl rfl)
theorem dX3_isGood_25 : decode cX3_isGood 25 = .ok (.ladd, 1) := dk_97 (dk_at dksX3_isGood_1 1 rfl rfl)
theorem dX3_isGood_26 : decode cX3_isGood 26 = .ok (.aload_n 0, 1) := dk_42 (dk_at dksX3_isGood_1 2 rfl rfl)
theorem dX3_isGood_27 : decode cX3_isGood 27 = .ok (.iload_n 1, 1) := dk_27 (dk_at dksX3_isGood_1 3 rfl rfl)
theorem dX3_isGood_28 : decode cX3_isGood 28 = .ok (.iload_n 2, 1) := dk_28 (dk_at dksX3_isGood_1 4 rfl rfl)
theorem dX3_isGood_29 : decode cX3_isGood 29 = .ok (.iconst 2, 1) := dk_5 (dk_at dksX3_isGood_1 5 rfl rfl)
theorem dX3_isGood_30 : decode cX3_isGood 30 = .ok (.invokevirtual 343, 3) := dk_182 1 87 (dk_at dksX3_isGood_1 6 rfl rfl)
theorem dX3_isGood_33 : decode cX3_isGood 33 = .ok (.i2l, 1) := dk_133 (dk_at dksX3_isGood_1 9 rfl rfl)
theorem dX3_isGood_34 : decode cX3_isGood 34 = .ok (.lsub, 1) := dk_101 (dk_at dksX3_isGood_1 10 rfl rfl)
theorem dX3_isGood_35 : decode cX3_isGood 35 = .ok (.aload_n 0, 1) := dk_42 (dk_at dksX3_isGood_1 11 rfl rfl)
theorem dX3_isGood_36 : decode cX3_isGood 36 = .ok (.iload_n 1, 1) := dk_27 (dk_at dksX3_isGood_1 12 rfl rfl)
theorem dX3_isGood_37 : decode cX3_isGood 37 = .ok (.iload_n 2, 1) := dk_28 (dk_at dksX3_isGood_1 13 rfl rfl)
theorem dX3_isGood_38 : decode cX3_isGood 38 = .ok (.iconst 3, 1) := dk_6 (dk_at dksX3_isGood_1 14 rfl rfl)
theorem dX3_isGood_39 : decode cX3_isGood 39 = .ok (.invokevirtual 343, 3) := dk_182 1 87 (dk_at dksX3_isGood_1 15 rfl rfl)
theorem dX3_isGood_42 : decode cX3_isGood 42 = .ok (.i2l, 1) := dk_133 (dk_at dksX3_isGood_1 18 rfl rfl)
theorem dX3_isGood_43 : decode cX3_isGood 43 = .ok (.lsub, 1) := dk_101 (dk_at dksX3_isGood_1 19 rfl rfl)
theorem dX3_isGood_44 : decode cX3_isGood 44 = .ok (.lstore_n 3, 1) := dk_66 (dk_at dksX3_isGood_1 20 rfl rfl)
theorem dX3_isGood_45 : decode cX3_isGood 45 = .ok (.lload_n 3, 1) := dk_33 (dk_at dksX3_isGood_1 21 rfl rfl)
theorem dX3_isGood_46 : decode cX3_isGood 46 = .ok (.aload_n 0, 1) := dk_42 (dk_at dksX3_isGood_1 22 rfl rfl)
theorem dX3_isGood_47 : decode cX3_isGood 47 = .ok (.iload_n 1, 1) := dk_27 (dk_at dksX3_isGood_1 23 rfl rfl)
theorem dX3_isGood_48 : decode cX3_isGood 48 = .ok (.iload_n 2, 1) := dk_28 (dk_at dksX3_isGood_2 0 rfl rfl)
theorem dX3_isGood_49 : decode cX3_isGood 49 = .ok (.iconst 5, 1) := dk_8 (dk_at dksX3_isGood_2 1 rfl rfl)
theorem dX3_isGood_50 : decode cX3_isGood 50 = .ok (.invokevirtual 343, 3) := dk_182 1 87 (dk_at dksX3_isGood_2 2 rfl rfl)
theorem dX3_isGood_53 : decode cX3_isGood 53 = .ok (.i2l, 1) := dk_133 (dk_at dksX3_isGood_2 5 rfl rfl)
theorem dX3_isGood_54 : decode cX3_isGood 54 = .ok (.lcmp, 1) := dk_148 (dk_at dksX3_isGood_2 6 rfl rfl)
theorem dX3_isGood_55 : decode cX3_isGood 55 = .ok (.ifCond .ne 36, 3) := dk_154 0 36 (dk_at dksX3_isGood_2 7 rfl rfl)
theorem dX3_isGood_58 : decode cX3_isGood 58 = .ok (.iload_n 2, 1) := dk_28 (dk_at dksX3_isGood_2 10 rfl rfl)
theorem dX3_isGood_59 : decode cX3_isGood 59 = .ok (.aload_n 0, 1) := dk_42 (dk_at dksX3_isGood_2 11 rfl rfl)
theorem dX3_isGood_60 : decode cX3_isGood 60 = .ok (.getfield 13, 3) := dk_180 0 13 (dk_at dksX3_isGood_2 12 rfl rfl)
theorem dX3_isGood_63 : decode cX3_isGood 63 = .ok (.iconst 2, 1) := dk_5 (dk_at dksX3_isGood_2 15 rfl rfl)
theorem dX3_isGood_64 : decode cX3_isGood 64 = .ok (.iaload, 1) := dk_46 (dk_at dksX3_isGood_2 16 rfl rfl)
theorem dX3_isGood_65 : decode cX3_isGood 65 = .ok (.if_icmp .eq 22, 3) := dk_159 0 22 (dk_at dksX3_isGood_2 17 rfl rfl)
theorem dX3_isGood_68 : decode cX3_isGood 68 = .ok (.aload_n 0, 1) := dk_42 (dk_at dksX3_isGood_2 20 rfl rfl)
theorem dX3_isGood_69 : decode cX3_isGood 69 = .ok (.iload_n 1, 1) := dk_27 (dk_at dksX3_isGood_2 21 rfl rfl)
theorem dX3_isGood_70 : decode cX3_isGood 70 = .ok (.iload_n 2, 1) := dk_28 (dk_at dksX3_isGood_2 22 rfl rfl)
theorem dX3_isGood_71 : decode cX3_isGood 71 = .ok (.iconst 5, 1) := dk_8 (dk_at dksX3_isGood_2 23 rfl rfl)
theorem dX3_isGood_72 : decode cX3_isGood 72 = .ok (.invokevirtual 343, 3) := dk_182 1 87 (dk_at dksX3_isGood_3 0 rfl rfl)
theorem dX3_isGood_75 : decode cX3_isGood 75 = .ok (.aload_n 0, 1) := dk_42 (dk_at dksX3_isGood_3 3 rfl rfl)
theorem dX3_isGood_76 : decode cX3_isGood 76 = .ok (.iload_n 1, 1) := dk_27 (dk_at dksX3_isGood_3 4 rfl rfl)
theorem dX3_isGood_77 : decode cX3_isGood 77 = .ok (.iload_n 2, 1) := dk_28 (dk_at dksX3_isGood_3 5 rfl rfl)
theorem dX3_isGood_78 : decode cX3_isGood 78 = .ok (.iconst 1, 1) := dk_4 (dk_at dksX3_isGood_3 6 rfl rfl)
theorem dX3_isGood_79 : decode cX3_isGood 79 = .ok (.iadd, 1) := dk_96 (dk_at dksX3_isGood_3 7 rfl rfl)
theorem dX3_isGood_80 : decode cX3_isGood 80 = .ok (.iconst 0, 1) := dk_3 (dk_at dksX3_isGood_3 8 rfl rfl)
theorem dX3_isGood_81 : decode cX3_isGood 81 = .ok (.invokevirtual 343, 3) := dk_182 1 87 (dk_at dksX3_isGood_3 9 rfl rfl)
theorem dX3_isGood_84 : decode cX3_isGood 84 = .ok (.if_icmp .ne 7, 3) := dk_160 0 7 (dk_at dksX3_isGood_3 12 rfl rfl)
theorem dX3_isGood_87 : decode cX3_isGood 87 = .ok (.iconst 1, 1) := dk_4 (dk_at dksX3_isGood_3 15 rfl rfl)
theorem dX3_isGood_88 : decode cX3_isGood 88 = .ok (.goto 4, 3) := dk_167 0 4 (dk_at dksX3_isGood_3 16 rfl rfl)
theorem dX3_isGood_91 : decode cX3_isGood 91 = .ok (.iconst 0, 1) := dk_3 (dk_at dksX3_isGood_3 19 rfl rfl)
theorem dX3_isGood_92 : decode cX3_isGood 92 = .ok (.ireturn, 1) := dk_172 (dk_at dksX3_isGood_3 20 rfl rfl)
abbrev cX3_isBalanced : ByteArray := prog_39_method_84_code
def yX3_isBalanced : MethodName := ⟨RX3, "isBalanced", "()Z"⟩
def dkwX3_isBalanced_2 : List UInt8 := [167, 0, 4, 3, 60, 132, 3, 1, 167, 255, 224, 132, 2, 1, 167, 255, 206, 27, 172]
abbrev dktX3_isBalanced_2 : List UInt8 := dkwX3_isBalanced_2 ++ []
def dkwX3_isBalanced_1 : List UInt8 := [180, 0, 13, 5, 46, 163, 0, 28, 27, 153, 0, 16, 42, 28, 29, 182, 1, 93, 153, 0, 7, 4]
abbrev dktX3_isBalanced_1 : List UInt8 := dkwX3_isBalanced_1 ++ dktX3_isBalanced_2
def dkwX3_isBalanced_0 : List UInt8 := [42, 3, 181, 0, 3, 4, 60, 3, 61, 28, 42, 180, 0, 13, 3, 46, 162, 0, 46, 3, 62, 29, 42]
abbrev dktX3_isBalanced_0 : List UInt8 := dkwX3_isBalanced_0 ++ dktX3_isBalanced_1
theorem dksX3_isBalanced_0 : cX3_isBalanced.data.toList.drop 0 = dktX3_isBalanced_0 := by decide +kernel
theorem dksX3_isBalanced_1 : cX3_isBalanced.data.toList.drop 23 = dktX3_isBalanced_1 := dk_seg dksX3_isBalanced_0 23 rfl rfl
theorem dksX3_isBalanced_2 : cX3_isBalanced.data.toList.drop 45 = dktX3_isBalanced_2 := dk_seg dksX3_isBalanced_1 22 rfl rfl
theorem dX3_isBalanced_0 : decode cX3_isBalanced 0 = .ok (.aload_n 0, 1) := dk_42 (dk_at dksX3_isBalanced_0 0 rfl rfl)
theorem dX3_isBalanced_1 : decode cX3_isBalanced 1 = .ok (.iconst 0, 1) := dk_3 (dk_at dksX3_isBalanced_0 1 rfl rfl)
theorem dX3_isBalanced_2 : decode cX3_isBalanced 2 = .ok (.putfield 3, 3) := dk_181 0 3 (dk_at dksX3_isBalanced_0 2 rfl rfl)
theorem dX3_isBalanced_5 : decode cX3_isBalanced 5 = .ok (.iconst 1, 1) := dk_4 (dk_at dksX3_isBalanced_0 5 rfl rfl)
theorem dX3_isBalanced_6 : decode cX3_isBalanced 6 = .ok (.istore_n 1, 1) := dk_60 (dk_at dksX3_isBalanced_0 6 rfl rfl)
theorem dX3_isBalanced_7 : decode cX3_isBalanced 7 = .ok (.iconst 0, 1) := dk_3 (dk_at dksX3_isBalanced_0 7 rfl rfl)
theorem dX3_isBalanced_8 : decode cX3_isBalanced 8 = .ok (.istore_n 2, 1) := dk_61 (dk_at dksX3_isBalanced_0 8 rfl rfl)
theorem dX3_isBalanced_9 : decode cX3_isBalanced 9 = .ok (.iload_n 2, 1) := dk_28 (dk_at dksX3_isBalanced_0 9 rfl rfl)
theorem dX3_isBalanced_10 : decode cX3_isBalanced 10 = .ok (.aload_n 0, 1) := dk_42 (dk_at dksX3_isBalanced_0 10 rfl rfl)
theorem dX3_isBalanced_11 : decode cX3_isBalanced 11 = .ok (.getfield 13, 3) := dk_180 0 13 (dk_at dksX3_isBalanced_0 11 rfl rfl)
theorem dX3_isBalanced_14 : decode cX3_isBalanced 14 = .ok (.iconst 0, 1) := dk_3 (dk_at dksX3_isBalanced_0 14 rfl rfl)
theorem dX3_isBalanced_15 : decode cX3_isBalanced 15 = .ok (.iaload, 1) := dk_46 (dk_at dksX3_isBalanced_0 15 rfl rfl)
theorem dX3_isBalanced_16 : decode cX3_isBalanced 16 = .ok (.if_icmp .ge 46, 3) := dk_162 0 46 (dk_at dksX3_isBalanced_0 16 rfl rfl)
theorem dX3_isBalanced_19 : decode cX3_isBalanced 19 = .ok (.iconst 0, 1) := dk_3 (dk_at dksX3_isBalanced_0 19 rfl rfl)
theorem dX3_isBalanced_20 : decode cX3_isBalanced 20 = .ok (.istore_n 3, 1) := dk_62 (dk_at dksX3_isBalanced_0 20 rfl rfl)
theorem dX3_isBalanced_21 : decode cX3_isBalanced 21 = .ok (.iload_n 3, 1) := dk_29 (dk_at dksX3_isBalanced_0 21 rfl rfl)
theorem dX3_isBalanced_22 : decode cX3_isBalanced 22 = .ok (.aload_n 0, 1) := dk_42 (dk_at dksX3_isBalanced_0 22 rfl rfl)
theorem dX3_isBalanced_23 : decode cX3_isBalanced 23 = .ok (.getfield 13, 3) := dk_180 0 13 (dk_at dksX3_isBalanced_1 0 rfl rfl)
theorem dX3_isBalanced_26 : decode cX3_isBalanced 26 = .ok (.iconst 2, 1) := dk_5 (dk_at dksX3_isBalanced_1 3 rfl rfl)
theorem dX3_isBalanced_27 : decode cX3_isBalanced 27 = .ok (.iaload, 1) := dk_46 (dk_at dksX3_isBalanced_1 4 rfl rfl)
theorem dX3_isBalanced_28 : decode cX3_isBalanced 28 = .ok (.if_icmp .gt 28, 3) := dk_163 0 28 (dk_at dksX3_isBalanced_1 5 rfl rfl)
theorem dX3_isBalanced_31 : decode cX3_isBalanced 31 = .ok (.iload_n 1, 1) := dk_27 (dk_at dksX3_isBalanced_1 8 rfl rfl)
theorem dX3_isBalanced_32 : decode cX3_isBalanced 32 = .ok (.ifCond .eq 16, 3) := dk_153 0 16 (dk_at dksX3_isBalanced_1 9 rfl rfl)
theorem dX3_isBalanced_35 : decode cX3_isBalanced 35 = .ok (.aload_n 0, 1) := dk_42 (dk_at dksX3_isBalanced_1 12 rfl rfl)
theorem dX3_isBalanced_36 : decode cX3_isBalanced 36 = .ok (.iload_n 2, 1) := dk_28 (dk_at dksX3_isBalanced_1 13 rfl rfl)
theorem dX3_isBalanced_37 : decode cX3_isBalanced 37 = .ok (.iload_n 3, 1) := dk_29 (dk_at dksX3_isBalanced_1 14 rfl rfl)
theorem dX3_isBalanced_38 : decode cX3_isBalanced 38 = .ok (.invokevirtual 349, 3) := dk_182 1 93 (dk_at dksX3_isBalanced_1 15 rfl rfl)
theorem dX3_isBalanced_41 : decode cX3_isBalanced 41 = .ok (.ifCond .eq 7, 3) := dk_153 0 7 (dk_at dksX3_isBalanced_1 18 rfl rfl)
theorem dX3_isBalanced_44 : decode cX3_isBalanced 44 = .ok (.iconst 1, 1) := dk_4 (dk_at dksX3_isBalanced_1 21 rfl rfl)
theorem dX3_isBalanced_45 : decode cX3_isBalanced 45 = .ok (.goto 4, 3) := dk_167 0 4 (dk_at dksX3_isBalanced_2 0 rfl rfl)
theorem dX3_isBalanced_48 : decode cX3_isBalanced 48 = .ok (.iconst 0, 1) := dk_3 (dk_at dksX3_isBalanced_2 3 rfl rfl)
theorem dX3_isBalanced_49 : decode cX3_isBalanced 49 = .ok (.istore_n 1, 1) := dk_60 (dk_at dksX3_isBalanced_2 4 rfl rfl)
theorem dX3_isBalanced_50 : decode cX3_isBalanced 50 = .ok (.iinc 3 1, 3) := dk_132 3 1 (dk_at dksX3_isBalanced_2 5 rfl rfl)
theorem dX3_isBalanced_53 : decode cX3_isBalanced 53 = .ok (.goto (-32), 3) := dk_167 255 224 (dk_at dksX3_isBalanced_2 8 rfl rfl)
theorem dX3_isBalanced_56 : decode cX3_isBalanced 56 = .ok (.iinc 2 1, 3) := dk_132 2 1 (dk_at dksX3_isBalanced_2 11 rfl rfl)
theorem dX3_isBalanced_59 : decode cX3_isBalanced 59 = .ok (.goto (-50), 3) := dk_167 255 206 (dk_at dksX3_isBalanced_2 14 rfl rfl)
theorem dX3_isBalanced_62 : decode cX3_isBalanced 62 = .ok (.iload_n 1, 1) := dk_27 (dk_at dksX3_isBalanced_2 17 rfl rfl)
theorem dX3_isBalanced_63 : decode cX3_isBalanced 63 = .ok (.ireturn, 1) := dk_172 (dk_at dksX3_isBalanced_2 18 rfl rfl)
abbrev cX3_isSighting : ByteArray := prog_39_method_85_code
def yX3_isSighting : MethodName := ⟨RX3, "isSighting", "(II)Z"⟩
def dkwX3_isSighting_0 : List UInt8 := [28, 133, 9, 42, 27, 16, 12, 182, 0, 67, 4, 100, 133, 184, 0, 167, 172]
abbrev dktX3_isSighting_0 : List UInt8 := dkwX3_isSighting_0 ++ []
theorem dksX3_isSighting_0 : cX3_isSighting.data.toList.drop 0 = dktX3_isSighting_0 := by decide +kernel
theorem dX3_isSighting_0 : decode cX3_isSighting 0 = .ok (.iload_n 2, 1) := dk_28 (dk_at dksX3_isSighting_0 0 rfl rfl)
theorem dX3_isSighting_1 : decode cX3_isSighting 1 = .ok (.i2l, 1) := dk_133 (dk_at dksX3_isSighting_0 1 rfl rfl)
theorem dX3_isSighting_2 : decode cX3_isSighting 2 = .ok (.lconst 0, 1) := dk_9 (dk_at dksX3_isSighting_0 2 rfl rfl)
theorem dX3_isSighting_3 : decode cX3_isSighting 3 = .ok (.aload_n 0, 1) := dk_42 (dk_at dksX3_isSighting_0 3 rfl rfl)
theorem dX3_isSighting_4 : decode cX3_isSighting 4 = .ok (.iload_n 1, 1) := dk_27 (dk_at dksX3_isSighting_0 4 rfl rfl)
theorem dX3_isSighting_5 : decode cX3_isSighting 5 = .ok (.bipush 12, 2) := dk_16 12 (dk_at dksX3_isSighting_0 5 rfl rfl)
theorem dX3_isSighting_7 : decode cX3_isSighting 7 = .ok (.invokevirtual 67, 3) := dk_182 0 67 (dk_at dksX3_isSighting_0 7 rfl rfl)
theorem dX3_isSighting_10 : decode cX3_isSighting 10 = .ok (.iconst 1, 1) := dk_4 (dk_at dksX3_isSighting_0 10 rfl rfl)
theorem dX3_isSighting_11 : decode cX3_isSighting 11 = .ok (.isub, 1) := dk_100 (dk_at dksX3_isSighting_0 11 rfl rfl)
theorem dX3_isSighting_12 : decode cX3_isSighting 12 = .ok (.i2l, 1) := dk_133 (dk_at dksX3_isSighting_0 12 rfl rfl)
theorem dX3_isSighting_13 : decode cX3_isSighting 13 = .ok (.invokestatic 167, 3) := dk_184 0 167 (dk_at dksX3_isSighting_0 13 rfl rfl)
theorem dX3_isSighting_16 : decode cX3_isSighting 16 = .ok (.ireturn, 1) := dk_172 (dk_at dksX3_isSighting_0 16 rfl rfl)
abbrev cX3_sightingOf : ByteArray := prog_39_method_86_code
def yX3_sightingOf : MethodName := ⟨RX3, "sightingOf", "(III)I"⟩
def dkwX3_sightingOf_0 : List UInt8 := [42, 27, 16, 52, 7, 28, 104, 96, 29, 96, 182, 0, 67, 172]
abbrev dktX3_sightingOf_0 : List UInt8 := dkwX3_sightingOf_0 ++ []
theorem dksX3_sightingOf_0 : cX3_sightingOf.data.toList.drop 0 = dktX3_sightingOf_0 := by decide +kernel
theorem dX3_sightingOf_0 : decode cX3_sightingOf 0 = .ok (.aload_n 0, 1) := dk_42 (dk_at dksX3_sightingOf_0 0 rfl rfl)
theorem dX3_sightingOf_1 : decode cX3_sightingOf 1 = .ok (.iload_n 1, 1) := dk_27 (dk_at dksX3_sightingOf_0 1 rfl rfl)
theorem dX3_sightingOf_2 : decode cX3_sightingOf 2 = .ok (.bipush 52, 2) := dk_16 52 (dk_at dksX3_sightingOf_0 2 rfl rfl)
theorem dX3_sightingOf_4 : decode cX3_sightingOf 4 = .ok (.iconst 4, 1) := dk_7 (dk_at dksX3_sightingOf_0 4 rfl rfl)
theorem dX3_sightingOf_5 : decode cX3_sightingOf 5 = .ok (.iload_n 2, 1) := dk_28 (dk_at dksX3_sightingOf_0 5 rfl rfl)
theorem dX3_sightingOf_6 : decode cX3_sightingOf 6 = .ok (.imul, 1) := dk_104 (dk_at dksX3_sightingOf_0 6 rfl rfl)
theorem dX3_sightingOf_7 : decode cX3_sightingOf 7 = .ok (.iadd, 1) := dk_96 (dk_at dksX3_sightingOf_0 7 rfl rfl)
theorem dX3_sightingOf_8 : decode cX3_sightingOf 8 = .ok (.iload_n 3, 1) := dk_29 (dk_at dksX3_sightingOf_0 8 rfl rfl)
theorem dX3_sightingOf_9 : decode cX3_sightingOf 9 = .ok (.iadd, 1) := dk_96 (dk_at dksX3_sightingOf_0 9 rfl rfl)
theorem dX3_sightingOf_10 : decode cX3_sightingOf 10 = .ok (.invokevirtual 67, 3) := dk_182 0 67 (dk_at dksX3_sightingOf_0 10 rfl rfl)
theorem dX3_sightingOf_13 : decode cX3_sightingOf 13 = .ok (.ireturn, 1) := dk_172 (dk_at dksX3_sightingOf_0 13 rfl rfl)
abbrev cX3_sighting : ByteArray := prog_39_method_87_code
def yX3_sighting : MethodName := ⟨RX3, "sighting", "(III)I"⟩
def dkwX3_sighting_2 : List UInt8 := [153, 0, 13, 42, 27, 28, 29, 182, 1, 99, 167, 0, 4, 2, 172]
abbrev dktX3_sighting_2 : List UInt8 := dkwX3_sighting_2 ++ []
def dkwX3_sighting_1 : List UInt8 := [154, 0, 7, 4, 167, 0, 4, 3, 5, 182, 1, 6, 153, 0, 5, 3, 172, 42, 27, 28, 182, 1, 96]
abbrev dktX3_sighting_1 : List UInt8 := dkwX3_sighting_1 ++ dktX3_sighting_2
def dkwX3_sighting_0 : List UInt8 := [42, 3, 181, 0, 3, 42, 27, 182, 1, 55, 154, 0, 28, 42, 29, 133, 9, 20, 1, 58, 184, 0, 167]
abbrev dktX3_sighting_0 : List UInt8 := dkwX3_sighting_0 ++ dktX3_sighting_1
theorem dksX3_sighting_0 : cX3_sighting.data.toList.drop 0 = dktX3_sighting_0 := by decide +kernel
theorem dksX3_sighting_1 : cX3_sighting.data.toList.drop 23 = dktX3_sighting_1 := dk_seg dksX3_sighting_0 23 rfl rfl
theorem dksX3_sighting_2 : cX3_sighting.data.toList.drop 46 = dktX3_sighting_2 := dk_seg dksX3_sighting_1 23 rfl rfl
theorem dX3_sighting_0 : decode cX3_sighting 0 = .ok (.aload_n 0, 1) := dk_42 (dk_at dksX3_sighting_0 0 rfl rfl)
theorem dX3_sighting_1 : decode cX3_sighting 1 = .ok (.iconst 0, 1) := dk_3 (dk_at dksX3_sighting_0 1 rfl rfl)
theorem dX3_sighting_2 : decode cX3_sighting 2 = .ok (.putfield 3, 3) := dk_181 0 3 (dk_at dksX3_sighting_0 2 rfl rfl)
theorem dX3_sighting_5 : decode cX3_sighting 5 = .ok (.aload_n 0, 1) := dk_42 (dk_at dksX3_sighting_0 5 rfl rfl)
theorem dX3_sighting_6 : decode cX3_sighting 6 = .ok (.iload_n 1, 1) := dk_27 (dk_at dksX3_sighting_0 6 rfl rfl)
theorem dX3_sighting_7 : decode cX3_sighting 7 = .ok (.invokevirtual 311, 3) := dk_182 1 55 (dk_at dksX3_sighting_0 7 rfl rfl)
theorem dX3_sighting_10 : decode cX3_sighting 10 = .ok (.ifCond .ne 28, 3) := dk_154 0 28 (dk_at dksX3_sighting_0 10 rfl rfl)
theorem dX3_sighting_13 : decode cX3_sighting 13 = .ok (.aload_n 0, 1) := dk_42 (dk_at dksX3_sighting_0 13 rfl rfl)
theorem dX3_sighting_14 : decode cX3_sighting 14 = .ok (.iload_n 3, 1) := dk_29 (dk_at dksX3_sighting_0 14 rfl rfl)
theorem dX3_sighting_15 : decode cX3_sighting 15 = .ok (.i2l, 1) := dk_133 (dk_at dksX3_sighting_0 15 rfl rfl)
theorem dX3_sighting_16 : decode cX3_sighting 16 = .ok (.lconst 0, 1) := dk_9 (dk_at dksX3_sighting_0 16 rfl rfl)
theorem dX3_sighting_17 : decode cX3_sighting 17 = .ok (.ldc2_w 314, 3) := dk_20 1 58 (dk_at dksX3_sighting_0 17 rfl rfl)
theorem dX3_sighting_20 : decode cX3_sighting 20 = .ok (.invokestatic 167, 3) := dk_184 0 167 (dk_at dksX3_sighting_0 20 rfl rfl)
theorem dX3_sighting_23 : decode cX3_sighting 23 = .ok (.ifCond .ne 7, 3) := dk_154 0 7 (dk_at dksX3_sighting_1 0 rfl rfl)
theorem dX3_sighting_26 : decode cX3_sighting 26 = .ok (.iconst 1, 1) := dk_4 (dk_at dksX3_sighting_1 3 rfl rfl)
theorem dX3_sighting_27 : decode cX3_sighting 27 = .ok (.goto 4, 3) := dk_167 0 4 (dk_at dksX3_sighting_1 4 rfl rfl)
theorem dX3_sighting_30 : decode cX3_sighting 30 = .ok (.iconst 0, 1) := dk_3 (dk_at dksX3_sighting_1 7 rfl rfl)
theorem dX3_sighting_31 : decode cX3_sighting 31 = .ok (.iconst 2, 1) := dk_5 (dk_at dksX3_sighting_1 8 rfl rfl)
theorem dX3_sighting_32 : decode cX3_sighting 32 = .ok (.invokevirtual 262, 3) := dk_182 1 6 (dk_at dksX3_sighting_1 9 rfl rfl)
theorem dX3_sighting_35 : decode cX3_sighting 35 = .ok (.ifCond .eq 5, 3) := dk_153 0 5 (dk_at dksX3_sighting_1 12 rfl rfl)
theorem dX3_sighting_38 : decode cX3_sighting 38 = .ok (.iconst 0, 1) := dk_3 (dk_at dksX3_sighting_1 15 rfl rfl)
theorem dX3_sighting_39 : decode cX3_sighting 39 = .ok (.ireturn, 1) := dk_172 (dk_at dksX3_sighting_1 16 rfl rfl)
theorem dX3_sighting_40 : decode cX3_sighting 40 = .ok (.aload_n 0, 1) := dk_42 (dk_at dksX3_sighting_1 17 rfl rfl)
theorem dX3_sighting_41 : decode cX3_sighting 41 = .ok (.iload_n 1, 1) := dk_27 (dk_at dksX3_sighting_1 18 rfl rfl)
theorem dX3_sighting_42 : decode cX3_sighting 42 = .ok (.iload_n 2, 1) := dk_28 (dk_at dksX3_sighting_1 19 rfl rfl)
theorem dX3_sighting_43 : decode cX3_sighting 43 = .ok (.invokevirtual 352, 3) := dk_182 1 96 (dk_at dksX3_sighting_1 20 rfl rfl)
theorem dX3_sighting_46 : decode cX3_sighting 46 = .ok (.ifCond .eq 13, 3) := dk_153 0 13 (dk_at dksX3_sighting_2 0 rfl rfl)
theorem dX3_sighting_49 : decode cX3_sighting 49 = .ok (.aload_n 0, 1) := dk_42 (dk_at dksX3_sighting_2 3 rfl rfl)
theorem dX3_sighting_50 : decode cX3_sighting 50 = .ok (.iload_n 1, 1) := dk_27 (dk_at dksX3_sighting_2 4 rfl rfl)
theorem dX3_sighting_51 : decode cX3_sighting 51 = .ok (.iload_n 2, 1) := dk_28 (dk_at dksX3_sighting_2 5 rfl rfl)
theorem dX3_sighting_52 : decode cX3_sighting 52 = .ok (.iload_n 3, 1) := dk_29 (dk_at dksX3_sighting_2 6 rfl rfl)
theorem dX3_sighting_53 : decode cX3_sighting 53 = .ok (.invokevirtual 355, 3) := dk_182 1 99 (dk_at dksX3_sighting_2 7 rfl rfl)
theorem dX3_sighting_56 : decode cX3_sighting 56 = .ok (.goto 4, 3) := dk_167 0 4 (dk_at dksX3_sighting_2 10 rfl rfl)
theorem dX3_sighting_59 : decode cX3_sighting 59 = .ok (.iconst (-1), 1) := dk_2 (dk_at dksX3_sighting_2 13 rfl rfl)
theorem dX3_sighting_60 : decode cX3_sighting 60 = .ok (.ireturn, 1) := dk_172 (dk_at dksX3_sighting_2 14 rfl rfl)
abbrev cX3_estimateOf : ByteArray := prog_39_method_88_code
def yX3_estimateOf : MethodName := ⟨RX3, "estimateOf", "(II)J"⟩
def dkwX3_estimateOf_1 : List UInt8 := [6, 182, 1, 99, 133, 10, 97, 109, 10, 101, 173]
abbrev dktX3_estimateOf_1 : List UInt8 := dkwX3_estimateOf_1 ++ []
def dkwX3_estimateOf_0 : List UInt8 := [42, 27, 28, 4, 182, 1, 99, 133, 10, 97, 42, 27, 28, 5, 182, 1, 99, 133, 10, 97, 105, 42, 27, 28]
abbrev dktX3_estimateOf_0 : List UInt8 := dkwX3_estimateOf_0 ++ dktX3_estimateOf_1
theorem dksX3_estimateOf_0 : cX3_estimateOf.data.toList.drop 0 = dktX3_estimateOf_0 := by decide +kernel
theorem dksX3_estimateOf_1 : cX3_estimateOf.data.toList.drop 24 = dktX3_estimateOf_1 := dk_seg dksX3_estimateOf_0 24 rfl rfl
theorem dX3_estimateOf_0 : decode cX3_estimateOf 0 = .ok (.aload_n 0, 1) := dk_42 (dk_at dksX3_estimateOf_0 0 rfl rfl)
theorem dX3_estimateOf_1 : decode cX3_estimateOf 1 = .ok (.iload_n 1, 1) := dk_27 (dk_at dksX3_estimateOf_0 1 rfl rfl)
theorem dX3_estimateOf_2 : decode cX3_estimateOf 2 = .ok (.iload_n 2, 1) := dk_28 (dk_at dksX3_estimateOf_0 2 rfl rfl)
theorem dX3_estimateOf_3 : decode cX3_estimateOf 3 = .ok (.iconst 1, 1) := dk_4 (dk_at dksX3_estimateOf_0 3 rfl rfl)
theorem dX3_estimateOf_4 : decode cX3_estimateOf 4 = .ok (.invokevirtual 355, 3) := dk_182 1 99 (dk_at dksX3_estimateOf_0 4 rfl rfl)
theorem dX3_estimateOf_7 : decode cX3_estimateOf 7 = .ok (.i2l, 1) := dk_133 (dk_at dksX3_estimateOf_0 7 rfl rfl)
theorem dX3_estimateOf_8 : decode cX3_estimateOf 8 = .ok (.lconst 1, 1) := dk_10 (dk_at dksX3_estimateOf_0 8 rfl rfl)
theorem dX3_estimateOf_9 : decode cX3_estimateOf 9 = .ok (.ladd, 1) := dk_97 (dk_at dksX3_estimateOf_0 9 rfl rfl)
theorem dX3_estimateOf_10 : decode cX3_estimateOf 10 = .ok (.aload_n 0, 1) := dk_42 (dk_at dksX3_estimateOf_0 10 rfl rfl)
theorem dX3_estimateOf_11 : decode cX3_estimateOf 11 = .ok (.iload_n 1, 1) := dk_27 (dk_at dksX3_estimateOf_0 11 rfl rfl)
theorem dX3_estimateOf_12 : decode cX3_estimateOf 12 = .ok (.iload_n 2, 1) := dk_28 (dk_at dksX3_estimateOf_0 12 rfl rfl)
theorem dX3_estimateOf_13 : decode cX3_estimateOf 13 = .ok (.iconst 2, 1) := dk_5 (dk_at dksX3_estimateOf_0 13 rfl rfl)
theorem dX3_estimateOf_14 : decode cX3_estimateOf 14 = .ok (.invokevirtual 355, 3) := dk_182 1 99 (dk_at dksX3_estimateOf_0 14 rfl rfl)
theorem dX3_estimateOf_17 : decode cX3_estimateOf 17 = .ok (.i2l, 1) := dk_133 (dk_at dksX3_estimateOf_0 17 rfl rfl)
theorem dX3_estimateOf_18 : decode cX3_estimateOf 18 = .ok (.lconst 1, 1) := dk_10 (dk_at dksX3_estimateOf_0 18 rfl rfl)
theorem dX3_estimateOf_19 : decode cX3_estimateOf 19 = .ok (.ladd, 1) := dk_97 (dk_at dksX3_estimateOf_0 19 rfl rfl)
theorem dX3_estimateOf_20 : decode cX3_estimateOf 20 = .ok (.lmul, 1) := dk_105 (dk_at dksX3_estimateOf_0 20 rfl rfl)
theorem dX3_estimateOf_21 : decode cX3_estimateOf 21 = .ok (.aload_n 0, 1) := dk_42 (dk_at dksX3_estimateOf_0 21 rfl rfl)
theorem dX3_estimateOf_22 : decode cX3_estimateOf 22 = .ok (.iload_n 1, 1) := dk_27 (dk_at dksX3_estimateOf_0 22 rfl rfl)
theorem dX3_estimateOf_23 : decode cX3_estimateOf 23 = .ok (.iload_n 2, 1) := dk_28 (dk_at dksX3_estimateOf_0 23 rfl rfl)
theorem dX3_estimateOf_24 : decode cX3_estimateOf 24 = .ok (.iconst 3, 1) := dk_6 (dk_at dksX3_estimateOf_1 0 rfl rfl)
theorem dX3_estimateOf_25 : decode cX3_estimateOf 25 = .ok (.invokevirtual 355, 3) := dk_182 1 99 (dk_at dksX3_estimateOf_1 1 rfl rfl)
theorem dX3_estimateOf_28 : decode cX3_estimateOf 28 = .ok (.i2l, 1) := dk_133 (dk_at dksX3_estimateOf_1 4 rfl rfl)
theorem dX3_estimateOf_29 : decode cX3_estimateOf 29 = .ok (.lconst 1, 1) := dk_10 (dk_at dksX3_estimateOf_1 5 rfl rfl)
theorem dX3_estimateOf_30 : decode cX3_estimateOf 30 = .ok (.ladd, 1) := dk_97 (dk_at dksX3_estimateOf_1 6 rfl rfl)
theorem dX3_estimateOf_31 : decode cX3_estimateOf 31 = .ok (.ldiv, 1) := dk_109 (dk_at dksX3_estimateOf_1 7 rfl rfl)
theorem dX3_estimateOf_32 : decode cX3_estimateOf 32 = .ok (.lconst 1, 1) := dk_10 (dk_at dksX3_estimateOf_1 8 rfl rfl)
theorem dX3_estimateOf_33 : decode cX3_estimateOf 33 = .ok (.lsub, 1) := dk_101 (dk_at dksX3_estimateOf_1 9 rfl rfl)
theorem dX3_estimateOf_34 : decode cX3_estimateOf 34 = .ok (.lreturn, 1) := dk_173 (dk_at dksX3_estimateOf_1 10 rfl rfl)
abbrev cX3_estimate : ByteArray := prog_39_method_89_code
def yX3_estimate : MethodName := ⟨RX3, "estimate", "(II)J"⟩
def dkwX3_estimate_1 : List UInt8 := [42, 27, 28, 182, 1, 102, 167, 0, 6, 20, 1, 105, 173]
abbrev dktX3_estimate_1 : List UInt8 := dkwX3_estimate_1 ++ []
def dkwX3_estimate_0 : List UInt8 := [42, 3, 181, 0, 3, 42, 27, 182, 1, 55, 153, 0, 5, 9, 173, 42, 27, 28, 182, 1, 96, 153, 0, 12]
abbrev dktX3_estimate_0 : List UInt8 := dkwX3_estimate_0 ++ dktX3_estimate_1
theorem dksX3_estimate_0 : cX3_estimate.data.toList.drop 0 = dktX3_estimate_0 := by decide +kernel
theorem dksX3_estimate_1 : cX3_estimate.data.toList.drop 24 = dktX3_estimate_1 := dk_seg dksX3_estimate_0 24 rfl rfl
theorem dX3_estimate_0 : decode cX3_estimate 0 = .ok (.aload_n 0, 1) := dk_42 (dk_at dksX3_estimate_0 0 rfl rfl)
theorem dX3_estimate_1 : decode cX3_estimate 1 = .ok (.iconst 0, 1) := dk_3 (dk_at dksX3_estimate_0 1 rfl rfl)
theorem dX3_estimate_2 : decode cX3_estimate 2 = .ok (.putfield 3, 3) := dk_181 0 3 (dk_at dksX3_estimate_0 2 rfl rfl)
theorem dX3_estimate_5 : decode cX3_estimate 5 = .ok (.aload_n 0, 1) := dk_42 (dk_at dksX3_estimate_0 5 rfl rfl)
theorem dX3_estimate_6 : decode cX3_estimate 6 = .ok (.iload_n 1, 1) := dk_27 (dk_at dksX3_estimate_0 6 rfl rfl)
theorem dX3_estimate_7 : decode cX3_estimate 7 = .ok (.invokevirtual 311, 3) := dk_182 1 55 (dk_at dksX3_estimate_0 7 rfl rfl)
theorem dX3_estimate_10 : decode cX3_estimate 10 = .ok (.ifCond .eq 5, 3) := dk_153 0 5 (dk_at dksX3_estimate_0 10 rfl rfl)
theorem dX3_estimate_13 : decode cX3_estimate 13 = .ok (.lconst 0, 1) := dk_9 (dk_at dksX3_estimate_0 13 rfl rfl)
theorem dX3_estimate_14 : decode cX3_estimate 14 = .ok (.lreturn, 1) := dk_173 (dk_at dksX3_estimate_0 14 rfl rfl)
theorem dX3_estimate_15 : decode cX3_estimate 15 = .ok (.aload_n 0, 1) := dk_42 (dk_at dksX3_estimate_0 15 rfl rfl)
theorem dX3_estimate_16 : decode cX3_estimate 16 = .ok (.iload_n 1, 1) := dk_27 (dk_at dksX3_estimate_0 16 rfl rfl)
theorem dX3_estimate_17 : decode cX3_estimate 17 = .ok (.iload_n 2, 1) := dk_28 (dk_at dksX3_estimate_0 17 rfl rfl)
theorem dX3_estimate_18 : decode cX3_estimate 18 = .ok (.invokevirtual 352, 3) := dk_182 1 96 (dk_at dksX3_estimate_0 18 rfl rfl)
theorem dX3_estimate_21 : decode cX3_estimate 21 = .ok (.ifCond .eq 12, 3) := dk_153 0 12 (dk_at dksX3_estimate_0 21 rfl rfl)
theorem dX3_estimate_24 : decode cX3_estimate 24 = .ok (.aload_n 0, 1) := dk_42 (dk_at dksX3_estimate_1 0 rfl rfl)
theorem dX3_estimate_25 : decode cX3_estimate 25 = .ok (.iload_n 1, 1) := dk_27 (dk_at dksX3_estimate_1 1 rfl rfl)
theorem dX3_estimate_26 : decode cX3_estimate 26 = .ok (.iload_n 2, 1) := dk_28 (dk_at dksX3_estimate_1 2 rfl rfl)
theorem dX3_estimate_27 : decode cX3_estimate 27 = .ok (.invokevirtual 358, 3) := dk_182 1 102 (dk_at dksX3_estimate_1 3 rfl rfl)
theorem dX3_estimate_30 : decode cX3_estimate 30 = .ok (.goto 6, 3) := dk_167 0 6 (dk_at dksX3_estimate_1 6 rfl rfl)
theorem dX3_estimate_33 : decode cX3_estimate 33 = .ok (.ldc2_w 361, 3) := dk_20 1 105 (dk_at dksX3_estimate_1 9 rfl rfl)
theorem dX3_estimate_36 : decode cX3_estimate 36 = .ok (.lreturn, 1) := dk_173 (dk_at dksX3_estimate_1 12 rfl rfl)
abbrev cX3_variance : ByteArray := prog_39_method_90_code
def yX3_variance : MethodName := ⟨RX3, "variance", "(II)D"⟩
def dkwX3_variance_3 : List UInt8 := [107, 24, 7, 15, 99, 111, 24, 7, 15, 99, 111, 24, 7, 20, 1, 107, 99, 111, 175]
abbrev dktX3_variance_3 : List UInt8 := dkwX3_variance_3 ++ []
def dkwX3_variance_2 : List UInt8 := [182, 1, 99, 135, 57, 7, 41, 15, 99, 24, 5, 15, 99, 107, 41, 24, 7, 103, 107, 24, 5, 24, 7, 103]
abbrev dktX3_variance_2 : List UInt8 := dkwX3_variance_2 ++ dktX3_variance_3
def dkwX3_variance_1 : List UInt8 := [42, 27, 28, 4, 182, 1, 99, 135, 74, 42, 27, 28, 5, 182, 1, 99, 135, 57, 5, 42, 27, 28, 6]
abbrev dktX3_variance_1 : List UInt8 := dkwX3_variance_1 ++ dktX3_variance_2
def dkwX3_variance_0 : List UInt8 := [42, 3, 181, 0, 3, 42, 27, 182, 1, 55, 154, 0, 12, 42, 27, 28, 182, 1, 96, 154, 0, 5, 14, 175]
abbrev dktX3_variance_0 : List UInt8 := dkwX3_variance_0 ++ dktX3_variance_1
theorem dksX3_variance_0 : cX3_variance.data.toList.drop 0 = dktX3_variance_0 := by decide +kernel
theorem dksX3_variance_1 : cX3_variance.data.toList.drop 24 = dktX3_variance_1 := dk_seg dksX3_variance_0 24 rfl rfl
theorem dksX3_variance_2 : cX3_variance.data.toList.drop 47 = dktX3_variance_2 := dk_seg dksX3_variance_1 23 rfl rfl
theorem dksX3_variance_3 : cX3_variance.data.toList.drop 71 = dktX3_variance_3 := dk_seg dksX3_variance_2 24 rfl rfl
theorem dX3_variance_0 : decode cX3_variance 0 = .ok (.aload_n 0, 1) := dk_42 (dk_at dksX3_variance_0 0 rfl rfl)
theorem dX3_variance_1 : decode cX3_variance 1 = .ok (.iconst 0, 1) := dk_3 (dk_at dksX3_variance_0 1 rfl rfl)
theorem dX3_variance_2 : decode cX3_variance 2 = .ok (.putfield 3, 3) := dk_181 0 3 (dk_at dksX3_variance_0 2 rfl rfl)
theorem dX3_variance_5 : decode cX3_variance 5 = .ok (.aload_n 0, 1) := dk_42 (dk_at dksX3_variance_0 5 rfl rfl)
theorem dX3_variance_6 : decode cX3_variance 6 = .ok (.iload_n 1, 1) := dk_27 (dk_at dksX3_variance_0 6 rfl rfl)
theorem dX3_variance_7 : decode cX3_variance 7 = .ok (.invokevirtual 311, 3) := dk_182 1 55 (dk_at dksX3_variance_0 7 rfl rfl)
theorem dX3_variance_10 : decode cX3_variance 10 = .ok (.ifCond .ne 12, 3) := dk_154 0 12 (dk_at dksX3_variance_0 10 rfl rfl)
theorem dX3_variance_13 : decode cX3_variance 13 = .ok (.aload_n 0, 1) := dk_42 (dk_at dksX3_variance_0 13 rfl rfl)
theorem dX3_variance_14 : decode cX3_variance 14 = .ok (.iload_n 1, 1) := dk_27 (dk_at dksX3_variance_0 14 rfl rfl)
theorem dX3_variance_15 : decode cX3_variance 15 = .ok (.iload_n 2, 1) := dk_28 (dk_at dksX3_variance_0 15 rfl rfl)
theorem dX3_variance_16 : decode cX3_variance 16 = .ok (.invokevirtual 352, 3) := dk_182 1 96 (dk_at dksX3_variance_0 16 rfl rfl)
theorem dX3_variance_19 : decode cX3_variance 19 = .ok (.ifCond .ne 5, 3) := dk_154 0 5 (dk_at dksX3_variance_0 19 rfl rfl)
theorem dX3_variance_22 : decode cX3_variance 22 = .ok (.dconst 0, 1) := dk_14 (dk_at dksX3_variance_0 22 rfl rfl)
theorem dX3_variance_23 : decode cX3_variance 23 = .ok (.dreturn, 1) := dk_175 (dk_at dksX3_variance_0 23 rfl rfl)
theorem dX3_variance_24 : decode cX3_variance 24 = .ok (.aload_n 0, 1) := dk_42 (dk_at dksX3_variance_1 0 rfl rfl)
theorem dX3_variance_25 : decode cX3_variance 25 = .ok (.iload_n 1, 1) := dk_27 (dk_at dksX3_variance_1 1 rfl rfl)
theorem dX3_variance_26 : decode cX3_variance 26 = .ok (.iload_n 2, 1) := dk_28 (dk_at dksX3_variance_1 2 rfl rfl)
theorem dX3_variance_27 : decode cX3_variance 27 = .ok (.iconst 1, 1) := dk_4 (dk_at dksX3_variance_1 3 rfl rfl)
theorem dX3_variance_28 : decode cX3_variance 28 = .ok (.invokevirtual 355, 3) := dk_182 1 99 (dk_at dksX3_variance_1 4 rfl rfl)
theorem dX3_variance_31 : decode cX3_variance 31 = .ok (.i2d, 1) := dk_135 (dk_at dksX3_variance_1 7 rfl rfl)
theorem dX3_variance_32 : decode cX3_variance 32 = .ok (.dstore_n 3, 1) := dk_74 (dk_at dksX3_variance_1 8 rfl rfl)
theorem dX3_variance_33 : decode cX3_variance 33 = .ok (.aload_n 0, 1) := dk_42 (dk_at dksX3_variance_1 9 rfl rfl)
theorem dX3_variance_34 : decode cX3_variance 34 = .ok (.iload_n 1, 1) := dk_27 (dk_at dksX3_variance_1 10 rfl rfl)
theorem dX3_variance_35 : decode cX3_variance 35 = .ok (.iload_n 2, 1) := dk_28 (dk_at dksX3_variance_1 11 rfl rfl)
theorem dX3_variance_36 : decode cX3_variance 36 = .ok (.iconst 2, 1) := dk_5 (dk_at dksX3_variance_1 12 rfl rfl)
theorem dX3_variance_37 : decode cX3_variance 37 = .ok (.invokevirtual 355, 3) := dk_182 1 99 (dk_at dksX3_variance_1 13 rfl rfl)
theorem dX3_variance_40 : decode cX3_variance 40 = .ok (.i2d, 1) := dk_135 (dk_at dksX3_variance_1 16 rfl rfl)
theorem dX3_variance_41 : decode cX3_variance 41 = .ok (.dstore 5, 2) := dk_57 5 (dk_at dksX3_variance_1 17 rfl rfl)
theorem dX3_variance_43 : decode cX3_variance 43 = .ok (.aload_n 0, 1) := dk_42 (dk_at dksX3_variance_1 19 rfl rfl)
theorem dX3_variance_44 : decode cX3_variance 44 = .ok (.iload_n 1, 1) := dk_27 (dk_at dksX3_variance_1 20 rfl rfl)
theorem dX3_variance_45 : decode cX3_variance 45 = .ok (.iload_n 2, 1) := dk_28 (dk_at dksX3_variance_1 21 rfl rfl)
theorem dX3_variance_46 : decode cX3_variance 46 = .ok (.iconst 3, 1) := dk_6 (dk_at dksX3_variance_1 22 rfl rfl)
theorem dX3_variance_47 : decode cX3_variance 47 = .ok (.invokevirtual 355, 3) := dk_182 1 99 (dk_at dksX3_variance_2 0 rfl rfl)
theorem dX3_variance_50 : decode cX3_variance 50 = .ok (.i2d, 1) := dk_135 (dk_at dksX3_variance_2 3 rfl rfl)
theorem dX3_variance_51 : decode cX3_variance 51 = .ok (.dstore 7, 2) := dk_57 7 (dk_at dksX3_variance_2 4 rfl rfl)
theorem dX3_variance_53 : decode cX3_variance 53 = .ok (.dload_n 3, 1) := dk_41 (dk_at dksX3_variance_2 6 rfl rfl)
theorem dX3_variance_54 : decode cX3_variance 54 = .ok (.dconst 1, 1) := dk_15 (dk_at dksX3_variance_2 7 rfl rfl)
theorem dX3_variance_55 : decode cX3_variance 55 = .ok (.dadd, 1) := dk_99 (dk_at dksX3_variance_2 8 rfl rfl)
theorem dX3_variance_56 : decode cX3_variance 56 = .ok (.dload 5, 2) := dk_24 5 (dk_at dksX3_variance_2 9 rfl rfl)
theorem dX3_variance_58 : decode cX3_variance 58 = .ok (.dconst 1, 1) := dk_15 (dk_at dksX3_variance_2 11 rfl rfl)
theorem dX3_variance_59 : decode cX3_variance 59 = .ok (.dadd, 1) := dk_99 (dk_at dksX3_variance_2 12 rfl rfl)
theorem dX3_variance_60 : decode cX3_variance 60 = .ok (.dmul, 1) := dk_107 (dk_at dksX3_variance_2 13 rfl rfl)
theorem dX3_variance_61 : decode cX3_variance 61 = .ok (.dload_n 3, 1) := dk_41 (dk_at dksX3_variance_2 14 rfl rfl)
theorem dX3_variance_62 : decode cX3_variance 62 = .ok (.dload 7, 2) := dk_24 7 (dk_at dksX3_variance_2 15 rfl rfl)
theorem dX3_variance_64 : decode cX3_variance 64 = .ok (.dsub, 1) := dk_103 (dk_at dksX3_variance_2 17 rfl rfl)
theorem dX3_variance_65 : decode cX3_variance 65 = .ok (.dmul, 1) := dk_107 (dk_at dksX3_variance_2 18 rfl rfl)
theorem dX3_variance_66 : decode cX3_variance 66 = .ok (.dload 5, 2) := dk_24 5 (dk_at dksX3_variance_2 19 rfl rfl)
theorem dX3_variance_68 : decode cX3_variance 68 = .ok (.dload 7, 2) := dk_24 7 (dk_at dksX3_variance_2 21 rfl rfl)
theorem dX3_variance_70 : decode cX3_variance 70 = .ok (.dsub, 1) := dk_103 (dk_at dksX3_variance_2 23 rfl rfl)
theorem dX3_variance_71 : decode cX3_variance 71 = .ok (.dmul, 1) := dk_107 (dk_at dksX3_variance_3 0 rfl rfl)
theorem dX3_variance_72 : decode cX3_variance 72 = .ok (.dload 7, 2) := dk_24 7 (dk_at dksX3_variance_3 1 rfl rfl)
theorem dX3_variance_74 : decode cX3_variance 74 = .ok (.dconst 1, 1) := dk_15 (dk_at dksX3_variance_3 3 rfl rfl)
theorem dX3_variance_75 : decode cX3_variance 75 = .ok (.dadd, 1) := dk_99 (dk_at dksX3_variance_3 4 rfl rfl)
theorem dX3_variance_76 : decode cX3_variance 76 = .ok (.ddiv, 1) := dk_111 (dk_at dksX3_variance_3 5 rfl rfl)
theorem dX3_variance_77 : decode cX3_variance 77 = .ok (.dload 7, 2) := dk_24 7 (dk_at dksX3_variance_3 6 rfl rfl)
theorem dX3_variance_79 : decode cX3_variance 79 = .ok (.dconst 1, 1) := dk_15 (dk_at dksX3_variance_3 8 rfl rfl)
theorem dX3_variance_80 : decode cX3_variance 80 = .ok (.dadd, 1) := dk_99 (dk_at dksX3_variance_3 9 rfl rfl)
theorem dX3_variance_81 : decode cX3_variance 81 = .ok (.ddiv, 1) := dk_111 (dk_at dksX3_variance_3 10 rfl rfl)
theorem dX3_variance_82 : decode cX3_variance 82 = .ok (.dload 7, 2) := dk_24 7 (dk_at dksX3_variance_3 11 rfl rfl)
theorem dX3_variance_84 : decode cX3_variance 84 = .ok (.ldc2_w 363, 3) := dk_20 1 107 (dk_at dksX3_variance_3 13 rfl rfl)
theorem dX3_variance_87 : decode cX3_variance 87 = .ok (.dadd, 1) := dk_99 (dk_at dksX3_variance_3 16 rfl rfl)
theorem dX3_variance_88 : decode cX3_variance 88 = .ok (.ddiv, 1) := dk_111 (dk_at dksX3_variance_3 17 rfl rfl)
theorem dX3_variance_89 : decode cX3_variance 89 = .ok (.dreturn, 1) := dk_175 (dk_at dksX3_variance_3 18 rfl rfl)
abbrev cX3_pooled : ByteArray := prog_39_method_91_code
def yX3_pooled : MethodName := ⟨RX3, "pooled", "(I)D"⟩
def dkwX3_pooled_3 : List UInt8 := [132, 6, 1, 167, 255, 205, 22, 4, 9, 148, 154, 0, 7, 14, 167, 0, 9, 32, 138, 22, 4, 138, 111, 175]
abbrev dktX3_pooled_3 : List UInt8 := dkwX3_pooled_3 ++ []
def dkwX3_pooled_2 : List UInt8 := [21, 6, 4, 182, 1, 99, 133, 105, 97, 65, 22, 4, 42, 27, 21, 6, 6, 182, 1, 99, 133, 97, 55, 4]
abbrev dktX3_pooled_2 : List UInt8 := dkwX3_pooled_2 ++ dktX3_pooled_3
def dkwX3_pooled_1 : List UInt8 := [21, 6, 42, 27, 16, 12, 182, 0, 67, 162, 0, 45, 32, 42, 27, 21, 6, 5, 182, 1, 99, 133, 42, 27]
abbrev dktX3_pooled_1 : List UInt8 := dkwX3_pooled_1 ++ dktX3_pooled_2
def dkwX3_pooled_0 : List UInt8 := [42, 3, 181, 0, 3, 42, 27, 182, 1, 55, 153, 0, 5, 14, 175, 9, 65, 9, 55, 4, 3, 54, 6]
abbrev dktX3_pooled_0 : List UInt8 := dkwX3_pooled_0 ++ dktX3_pooled_1
theorem dksX3_pooled_0 : cX3_pooled.data.toList.drop 0 = dktX3_pooled_0 := by decide +kernel
theorem dksX3_pooled_1 : cX3_pooled.data.toList.drop 23 = dktX3_pooled_1 := dk_seg dksX3_pooled_0 23 rfl rfl
theorem dksX3_pooled_2 : cX3_pooled.data.toList.drop 47 = dktX3_pooled_2 := dk_seg dksX3_pooled_1 24 rfl rfl
theorem dksX3_pooled_3 : cX3_pooled.data.toList.drop 71 = dktX3_pooled_3 := dk_seg dksX3_pooled_2 24 rfl rfl
theorem dX3_pooled_0 : decode cX3_pooled 0 = .ok (.aload_n 0, 1) := dk_42 (dk_at dksX3_pooled_0 0 rfl rfl)
theorem dX3_pooled_1 : decode cX3_pooled 1 = .ok (.iconst 0, 1) := dk_3 (dk_at dksX3_pooled_0 1 rfl rfl)
theorem dX3_pooled_2 : decode cX3_pooled 2 = .ok (.putfield 3, 3) := dk_181 0 3 (dk_at dksX3_pooled_0 2 rfl rfl)
theorem dX3_pooled_5 : decode cX3_pooled 5 = .ok (.aload_n 0, 1) := dk_42 (dk_at dksX3_pooled_0 5 rfl rfl)
theorem dX3_pooled_6 : decode cX3_pooled 6 = .ok (.iload_n 1, 1) := dk_27 (dk_at dksX3_pooled_0 6 rfl rfl)
theorem dX3_pooled_7 : decode cX3_pooled 7 = .ok (.invokevirtual 311, 3) := dk_182 1 55 (dk_at dksX3_pooled_0 7 rfl rfl)
theorem dX3_pooled_10 : decode cX3_pooled 10 = .ok (.ifCond .eq 5, 3) := dk_153 0 5 (dk_at dksX3_pooled_0 10 rfl rfl)
theorem dX3_pooled_13 : decode cX3_pooled 13 = .ok (.dconst 0, 1) := dk_14 (dk_at dksX3_pooled_0 13 rfl rfl)
theorem dX3_pooled_14 : decode cX3_pooled 14 = .ok (.dreturn, 1) := dk_175 (dk_at dksX3_pooled_0 14 rfl rfl)
theorem dX3_pooled_15 : decode cX3_pooled 15 = .ok (.lconst 0, 1) := dk_9 (dk_at dksX3_pooled_0 15 rfl rfl)
theorem dX3_pooled_16 : decode cX3_pooled 16 = .ok (.lstore_n 2, 1) := dk_65 (dk_at dksX3_pooled_0 16 rfl rfl)
theorem dX3_pooled_17 : decode cX3_pooled 17 = .ok (.lconst 0, 1) := dk_9 (dk_at dksX3_pooled_0 17 rfl rfl)
theorem dX3_pooled_18 : decode cX3_pooled 18 = .ok (.lstore 4, 2) := dk_55 4 (dk_at dksX3_pooled_0 18 rfl rfl)
theorem dX3_pooled_20 : decode cX3_pooled 20 = .ok (.iconst 0, 1) := dk_3 (dk_at dksX3_pooled_0 20 rfl rfl)
theorem dX3_pooled_21 : decode cX3_pooled 21 = .ok (.istore 6, 2) := dk_54 6 (dk_at dksX3_pooled_0 21 rfl rfl)
theorem dX3_pooled_23 : decode cX3_pooled 23 = .ok (.iload 6, 2) := dk_21 6 (dk_at dksX3_pooled_1 0 rfl rfl)
theorem dX3_pooled_25 : decode cX3_pooled 25 = .ok (.aload_n 0, 1) := dk_42 (dk_at dksX3_pooled_1 2 rfl rfl)
theorem dX3_pooled_26 : decode cX3_pooled 26 = .ok (.iload_n 1, 1) := dk_27 (dk_at dksX3_pooled_1 3 rfl rfl)
theorem dX3_pooled_27 : decode cX3_pooled 27 = .ok (.bipush 12, 2) := dk_16 12 (dk_at dksX3_pooled_1 4 rfl rfl)
theorem dX3_pooled_29 : decode cX3_pooled 29 = .ok (.invokevirtual 67, 3) := dk_182 0 67 (dk_at dksX3_pooled_1 6 rfl rfl)
theorem dX3_pooled_32 : decode cX3_pooled 32 = .ok (.if_icmp .ge 45, 3) := dk_162 0 45 (dk_at dksX3_pooled_1 9 rfl rfl)
theorem dX3_pooled_35 : decode cX3_pooled 35 = .ok (.lload_n 2, 1) := dk_32 (dk_at dksX3_pooled_1 12 rfl rfl)
theorem dX3_pooled_36 : decode cX3_pooled 36 = .ok (.aload_n 0, 1) := dk_42 (dk_at dksX3_pooled_1 13 rfl rfl)
theorem dX3_pooled_37 : decode cX3_pooled 37 = .ok (.iload_n 1, 1) := dk_27 (dk_at dksX3_pooled_1 14 rfl rfl)
theorem dX3_pooled_38 : decode cX3_pooled 38 = .ok (.iload 6, 2) := dk_21 6 (dk_at dksX3_pooled_1 15 rfl rfl)
theorem dX3_pooled_40 : decode cX3_pooled 40 = .ok (.iconst 2, 1) := dk_5 (dk_at dksX3_pooled_1 17 rfl rfl)
theorem dX3_pooled_41 : decode cX3_pooled 41 = .ok (.invokevirtual 355, 3) := dk_182 1 99 (dk_at dksX3_pooled_1 18 rfl rfl)
theorem dX3_pooled_44 : decode cX3_pooled 44 = .ok (.i2l, 1) := dk_133 (dk_at dksX3_pooled_1 21 rfl rfl)
theorem dX3_pooled_45 : decode cX3_pooled 45 = .ok (.aload_n 0, 1) := dk_42 (dk_at dksX3_pooled_1 22 rfl rfl)
theorem dX3_pooled_46 : decode cX3_pooled 46 = .ok (.iload_n 1, 1) := dk_27 (dk_at dksX3_pooled_1 23 rfl rfl)
theorem dX3_pooled_47 : decode cX3_pooled 47 = .ok (.iload 6, 2) := dk_21 6 (dk_at dksX3_pooled_2 0 rfl rfl)
theorem dX3_pooled_49 : decode cX3_pooled 49 = .ok (.iconst 1, 1) := dk_4 (dk_at dksX3_pooled_2 2 rfl rfl)
theorem dX3_pooled_50 : decode cX3_pooled 50 = .ok (.invokevirtual 355, 3) := dk_182 1 99 (dk_at dksX3_pooled_2 3 rfl rfl)
theorem dX3_pooled_53 : decode cX3_pooled 53 = .ok (.i2l, 1) := dk_133 (dk_at dksX3_pooled_2 6 rfl rfl)
theorem dX3_pooled_54 : decode cX3_pooled 54 = .ok (.lmul, 1) := dk_105 (dk_at dksX3_pooled_2 7 rfl rfl)
theorem dX3_pooled_55 : decode cX3_pooled 55 = .ok (.ladd, 1) := dk_97 (dk_at dksX3_pooled_2 8 rfl rfl)
theorem dX3_pooled_56 : decode cX3_pooled 56 = .ok (.lstore_n 2, 1) := dk_65 (dk_at dksX3_pooled_2 9 rfl rfl)
theorem dX3_pooled_57 : decode cX3_pooled 57 = .ok (.lload 4, 2) := dk_22 4 (dk_at dksX3_pooled_2 10 rfl rfl)
theorem dX3_pooled_59 : decode cX3_pooled 59 = .ok (.aload_n 0, 1) := dk_42 (dk_at dksX3_pooled_2 12 rfl rfl)
theorem dX3_pooled_60 : decode cX3_pooled 60 = .ok (.iload_n 1, 1) := dk_27 (dk_at dksX3_pooled_2 13 rfl rfl)
theorem dX3_pooled_61 : decode cX3_pooled 61 = .ok (.iload 6, 2) := dk_21 6 (dk_at dksX3_pooled_2 14 rfl rfl)
theorem dX3_pooled_63 : decode cX3_pooled 63 = .ok (.iconst 3, 1) := dk_6 (dk_at dksX3_pooled_2 16 rfl rfl)
theorem dX3_pooled_64 : decode cX3_pooled 64 = .ok (.invokevirtual 355, 3) := dk_182 1 99 (dk_at dksX3_pooled_2 17 rfl rfl)
theorem dX3_pooled_67 : decode cX3_pooled 67 = .ok (.i2l, 1) := dk_133 (dk_at dksX3_pooled_2 20 rfl rfl)
theorem dX3_pooled_68 : decode cX3_pooled 68 = .ok (.ladd, 1) := dk_97 (dk_at dksX3_pooled_2 21 rfl rfl)
theorem dX3_pooled_69 : decode cX3_pooled 69 = .ok (.lstore 4, 2) := dk_55 4 (dk_at dksX3_pooled_2 22 rfl rfl)
theorem dX3_pooled_71 : decode cX3_pooled 71 = .ok (.iinc 6 1, 3) := dk_132 6 1 (dk_at dksX3_pooled_3 0 rfl rfl)
theorem dX3_pooled_74 : decode cX3_pooled 74 = .ok (.goto (-51), 3) := dk_167 255 205 (dk_at dksX3_pooled_3 3 rfl rfl)
theorem dX3_pooled_77 : decode cX3_pooled 77 = .ok (.lload 4, 2) := dk_22 4 (dk_at dksX3_pooled_3 6 rfl rfl)
theorem dX3_pooled_79 : decode cX3_pooled 79 = .ok (.lconst 0, 1) := dk_9 (dk_at dksX3_pooled_3 8 rfl rfl)
theorem dX3_pooled_80 : decode cX3_pooled 80 = .ok (.lcmp, 1) := dk_148 (dk_at dksX3_pooled_3 9 rfl rfl)
theorem dX3_pooled_81 : decode cX3_pooled 81 = .ok (.ifCond .ne 7, 3) := dk_154 0 7 (dk_at dksX3_pooled_3 10 rfl rfl)
theorem dX3_pooled_84 : decode cX3_pooled 84 = .ok (.dconst 0, 1) := dk_14 (dk_at dksX3_pooled_3 13 rfl rfl)
theorem dX3_pooled_85 : decode cX3_pooled 85 = .ok (.goto 9, 3) := dk_167 0 9 (dk_at dksX3_pooled_3 14 rfl rfl)
theorem dX3_pooled_88 : decode cX3_pooled 88 = .ok (.lload_n 2, 1) := dk_32 (dk_at dksX3_pooled_3 17 rfl rfl)
theorem dX3_pooled_89 : decode cX3_pooled 89 = .ok (.l2d, 1) := dk_138 (dk_at dksX3_pooled_3 18 rfl rfl)
theorem dX3_pooled_90 : decode cX3_pooled 90 = .ok (.lload 4, 2) := dk_22 4 (dk_at dksX3_pooled_3 19 rfl rfl)
theorem dX3_pooled_92 : decode cX3_pooled 92 = .ok (.l2d, 1) := dk_138 (dk_at dksX3_pooled_3 21 rfl rfl)
theorem dX3_pooled_93 : decode cX3_pooled 93 = .ok (.ddiv, 1) := dk_111 (dk_at dksX3_pooled_3 22 rfl rfl)
theorem dX3_pooled_94 : decode cX3_pooled 94 = .ok (.dreturn, 1) := dk_175 (dk_at dksX3_pooled_3 23 rfl rfl)
abbrev cX3_planned : ByteArray := prog_39_method_92_code
def yX3_planned : MethodName := ⟨RX3, "planned", "(II)I"⟩
def dkwX3_planned_2 : List UInt8 := [153, 0, 18, 42, 180, 0, 13, 7, 8, 27, 104, 96, 28, 96, 46, 167, 0, 4, 2, 172]
abbrev dktX3_planned_2 : List UInt8 := dkwX3_planned_2 ++ []
def dkwX3_planned_1 : List UInt8 := [182, 1, 6, 153, 0, 5, 3, 172, 27, 133, 9, 42, 180, 0, 13, 6, 46, 4, 100, 133, 184, 0, 167]
abbrev dktX3_planned_1 : List UInt8 := dkwX3_planned_1 ++ dktX3_planned_2
def dkwX3_planned_0 : List UInt8 := [42, 3, 181, 0, 3, 42, 28, 133, 9, 20, 1, 91, 184, 0, 167, 154, 0, 7, 4, 167, 0, 4, 3, 4]
abbrev dktX3_planned_0 : List UInt8 := dkwX3_planned_0 ++ dktX3_planned_1
theorem dksX3_planned_0 : cX3_planned.data.toList.drop 0 = dktX3_planned_0 := by decide +kernel
theorem dksX3_planned_1 : cX3_planned.data.toList.drop 24 = dktX3_planned_1 := dk_seg dksX3_planned_0 24 rfl rfl
theorem dksX3_planned_2 : cX3_planned.data.toList.drop 47 = dktX3_planned_2 := dk_seg dksX3_planned_1 23 rfl rfl
theorem dX3_planned_0 : decode cX3_planned 0 = .ok (.aload_n 0, 1) := dk_42 (dk_at dksX3_planned_0 0 rfl rfl)
theorem dX3_planned_1 : decode cX3_planned 1 = .ok (.iconst 0, 1) := dk_3 (dk_at dksX3_planned_0 1 rfl rfl)
theorem dX3_planned_2 : decode cX3_planned 2 = .ok (.putfield 3, 3) := dk_181 0 3 (dk_at dksX3_planned_0 2 rfl rfl)
theorem dX3_planned_5 : decode cX3_planned 5 = .ok (.aload_n 0, 1) := dk_42 (dk_at dksX3_planned_0 5 rfl rfl)
theorem dX3_planned_6 : decode cX3_planned 6 = .ok (.iload_n 2, 1) := dk_28 (dk_at dksX3_planned_0 6 rfl rfl)
theorem dX3_planned_7 : decode cX3_planned 7 = .ok (.i2l, 1) := dk_133 (dk_at dksX3_planned_0 7 rfl rfl)
theorem dX3_planned_8 : decode cX3_planned 8 = .ok (.lconst 0, 1) := dk_9 (dk_at dksX3_planned_0 8 rfl rfl)
theorem dX3_planned_9 : decode cX3_planned 9 = .ok (.ldc2_w 347, 3) := dk_20 1 91 (dk_at dksX3_planned_0 9 rfl rfl)
theorem dX3_planned_12 : decode cX3_planned 12 = .ok (.invokestatic 167, 3) := dk_184 0 167 (dk_at dksX3_planned_0 12 rfl rfl)
theorem dX3_planned_15 : decode cX3_planned 15 = .ok (.ifCond .ne 7, 3) := dk_154 0 7 (dk_at dksX3_planned_0 15 rfl rfl)
theorem dX3_planned_18 : decode cX3_planned 18 = .ok (.iconst 1, 1) := dk_4 (dk_at dksX3_planned_0 18 rfl rfl)
theorem dX3_planned_19 : decode cX3_planned 19 = .ok (.goto 4, 3) := dk_167 0 4 (dk_at dksX3_planned_0 19 rfl rfl)
theorem dX3_planned_22 : decode cX3_planned 22 = .ok (.iconst 0, 1) := dk_3 (dk_at dksX3_planned_0 22 rfl rfl)
theorem dX3_planned_23 : decode cX3_planned 23 = .ok (.iconst 1, 1) := dk_4 (dk_at dksX3_planned_0 23 rfl rfl)
theorem dX3_planned_24 : decode cX3_planned 24 = .ok (.invokevirtual 262, 3) := dk_182 1 6 (dk_at dksX3_planned_1 0 rfl rfl)
theorem dX3_planned_27 : decode cX3_planned 27 = .ok (.ifCond .eq 5, 3) := dk_153 0 5 (dk_at dksX3_planned_1 3 rfl rfl)
theorem dX3_planned_30 : decode cX3_planned 30 = .ok (.iconst 0, 1) := dk_3 (dk_at dksX3_planned_1 6 rfl rfl)
theorem dX3_planned_31 : decode cX3_planned 31 = .ok (.ireturn, 1) := dk_172 (dk_at dksX3_planned_1 7 rfl rfl)
theorem dX3_planned_32 : decode cX3_planned 32 = .ok (.iload_n 1, 1) := dk_27 (dk_at dksX3_planned_1 8 rfl rfl)
theorem dX3_planned_33 : decode cX3_planned 33 = .ok (.i2l, 1) := dk_133 (dk_at dksX3_planned_1 9 rfl rfl)
theorem dX3_planned_34 : decode cX3_planned 34 = .ok (.lconst 0, 1) := dk_9 (dk_at dksX3_planned_1 10 rfl rfl)
theorem dX3_planned_35 : decode cX3_planned 35 = .ok (.aload_n 0, 1) := dk_42 (dk_at dksX3_planned_1 11 rfl rfl)
theorem dX3_planned_36 : decode cX3_planned 36 = .ok (.getfield 13, 3) := dk_180 0 13 (dk_at dksX3_planned_1 12 rfl rfl)
theorem dX3_planned_39 : decode cX3_planned 39 = .ok (.iconst 3, 1) := dk_6 (dk_at dksX3_planned_1 15 rfl rfl)
theorem dX3_planned_40 : decode cX3_planned 40 = .ok (.iaload, 1) := dk_46 (dk_at dksX3_planned_1 16 rfl rfl)
theorem dX3_planned_41 : decode cX3_planned 41 = .ok (.iconst 1, 1) := dk_4 (dk_at dksX3_planned_1 17 rfl rfl)
theorem dX3_planned_42 : decode cX3_planned 42 = .ok (.isub, 1) := dk_100 (dk_at dksX3_planned_1 18 rfl rfl)
theorem dX3_planned_43 : decode cX3_planned 43 = .ok (.i2l, 1) := dk_133 (dk_at dksX3_planned_1 19 rfl rfl)
theorem dX3_planned_44 : decode cX3_planned 44 = .ok (.invokestatic 167, 3) := dk_184 0 167 (dk_at dksX3_planned_1 20 rfl rfl)
theorem dX3_planned_47 : decode cX3_planned 47 = .ok (.ifCond .eq 18, 3) := dk_153 0 18 (dk_at dksX3_planned_2 0 rfl rfl)
theorem dX3_planned_50 : decode cX3_planned 50 = .ok (.aload_n 0, 1) := dk_42 (dk_at dksX3_planned_2 3 rfl rfl)
theorem dX3_planned_51 : decode cX3_planned 51 = .ok (.getfield 13, 3) := dk_180 0 13 (dk_at dksX3_planned_2 4 rfl rfl)
theorem dX3_planned_54 : decode cX3_planned 54 = .ok (.iconst 4, 1) := dk_7 (dk_at dksX3_planned_2 7 rfl rfl)
theorem dX3_planned_55 : decode cX3_planned 55 = .ok (.iconst 5, 1) := dk_8 (dk_at dksX3_planned_2 8 rfl rfl)
theorem dX3_planned_56 : decode cX3_planned 56 = .ok (.iload_n 1, 1) := dk_27 (dk_at dksX3_planned_2 9 rfl rfl)
theorem dX3_planned_57 : decode cX3_planned 57 = .ok (.imul, 1) := dk_104 (dk_at dksX3_planned_2 10 rfl rfl)
theorem dX3_planned_58 : decode cX3_planned 58 = .ok (.iadd, 1) := dk_96 (dk_at dksX3_planned_2 11 rfl rfl)
theorem dX3_planned_59 : decode cX3_planned 59 = .ok (.iload_n 2, 1) := dk_28 (dk_at dksX3_planned_2 12 rfl rfl)
theorem dX3_planned_60 : decode cX3_planned 60 = .ok (.iadd, 1) := dk_96 (dk_at dksX3_planned_2 13 rfl rfl)
theorem dX3_planned_61 : decode cX3_planned 61 = .ok (.iaload, 1) := dk_46 (dk_at dksX3_planned_2 14 rfl rfl)
theorem dX3_planned_62 : decode cX3_planned 62 = .ok (.goto 4, 3) := dk_167 0 4 (dk_at dksX3_planned_2 15 rfl rfl)
theorem dX3_planned_65 : decode cX3_planned 65 = .ok (.iconst (-1), 1) := dk_2 (dk_at dksX3_planned_2 18 rfl rfl)
theorem dX3_planned_66 : decode cX3_planned 66 = .ok (.ireturn, 1) := dk_172 (dk_at dksX3_planned_2 19 rfl rfl)
abbrev cX3_noYears : ByteArray := prog_39_method_93_code
def yX3_noYears : MethodName := ⟨RX3, "noYears", "(III)Z"⟩
def dkwX3_noYears_0 : List UInt8 := [42, 27, 133, 28, 133, 29, 133, 184, 0, 167, 154, 0, 7, 4, 167, 0, 4, 3, 5, 182, 1, 6, 172]
abbrev dktX3_noYears_0 : List UInt8 := dkwX3_noYears_0 ++ []
theorem dksX3_noYears_0 : cX3_noYears.data.toList.drop 0 = dktX3_noYears_0 := by decide +kernel
theorem dX3_noYears_0 : decode cX3_noYears 0 = .ok (.aload_n 0, 1) := dk_42 (dk_at dksX3_noYears_0 0 rfl rfl)
theorem dX3_noYears_1 : decode cX3_noYears 1 = .ok (.iload_n 1, 1) := dk_27 (dk_at dksX3_noYears_0 1 rfl rfl)
theorem dX3_noYears_2 : decode cX3_noYears 2 = .ok (.i2l, 1) := dk_133 (dk_at dksX3_noYears_0 2 rfl rfl)
theorem dX3_noYears_3 : decode cX3_noYears 3 = .ok (.iload_n 2, 1) := dk_28 (dk_at dksX3_noYears_0 3 rfl rfl)
theorem dX3_noYears_4 : decode cX3_noYears 4 = .ok (.i2l, 1) := dk_133 (dk_at dksX3_noYears_0 4 rfl rfl)
theorem dX3_noYears_5 : decode cX3_noYears 5 = .ok (.iload_n 3, 1) := dk_29 (dk_at dksX3_noYears_0 5 rfl rfl)
theorem dX3_noYears_6 : decode cX3_noYears 6 = .ok (.i2l, 1) := dk_133 (dk_at dksX3_noYears_0 6 rfl rfl)
theorem dX3_noYears_7 : decode cX3_noYears 7 = .ok (.invokestatic 167, 3) := dk_184 0 167 (dk_at dksX3_noYears_0 7 rfl rfl)
theorem dX3_noYears_10 : decode cX3_noYears 10 = .ok (.ifCond .ne 7, 3) := dk_154 0 7 (dk_at dksX3_noYears_0 10 rfl rfl)
theorem dX3_noYears_13 : decode cX3_noYears 13 = .ok (.iconst 1, 1) := dk_4 (dk_at dksX3_noYears_0 13 rfl rfl)
theorem dX3_noYears_14 : decode cX3_noYears 14 = .ok (.goto 4, 3) := dk_167 0 4 (dk_at dksX3_noYears_0 14 rfl rfl)
theorem dX3_noYears_17 : decode cX3_noYears 17 = .ok (.iconst 0, 1) := dk_3 (dk_at dksX3_noYears_0 17 rfl rfl)
theorem dX3_noYears_18 : decode cX3_noYears 18 = .ok (.iconst 2, 1) := dk_5 (dk_at dksX3_noYears_0 18 rfl rfl)
theorem dX3_noYears_19 : decode cX3_noYears 19 = .ok (.invokevirtual 262, 3) := dk_182 1 6 (dk_at dksX3_noYears_0 19 rfl rfl)
theorem dX3_noYears_22 : decode cX3_noYears 22 = .ok (.ireturn, 1) := dk_172 (dk_at dksX3_noYears_0 22 rfl rfl)
abbrev cX3_losesMarks : ByteArray := prog_39_method_51_code
def yX3_losesMarks : MethodName := ⟨RX3, "losesMarks", "(II)V"⟩
def dkwX3_losesMarks_1 : List UInt8 := [182, 0, 104, 133, 105, 28, 133, 109, 136, 79, 177]
abbrev dktX3_losesMarks_1 : List UInt8 := dkwX3_losesMarks_1 ++ []
def dkwX3_losesMarks_0 : List UInt8 := [28, 158, 0, 31, 42, 180, 0, 13, 27, 7, 184, 0, 63, 42, 27, 7, 182, 0, 67, 133, 42, 27]
abbrev dktX3_losesMarks_0 : List UInt8 := dkwX3_losesMarks_0 ++ dktX3_losesMarks_1
theorem dksX3_losesMarks_0 : cX3_losesMarks.data.toList.drop 0 = dktX3_losesMarks_0 := by decide +kernel
theorem dksX3_losesMarks_1 : cX3_losesMarks.data.toList.drop 22 = dktX3_losesMarks_1 := dk_seg dksX3_losesMarks_0 22 rfl rfl
theorem dX3_losesMarks_0 : decode cX3_losesMarks 0 = .ok (.iload_n 2, 1) := dk_28 (dk_at dksX3_losesMarks_0 0 rfl rfl)
theorem dX3_losesMarks_1 : decode cX3_losesMarks 1 = .ok (.ifCond .le 31, 3) := dk_158 0 31 (dk_at dksX3_losesMarks_0 1 rfl rfl)
theorem dX3_losesMarks_4 : decode cX3_losesMarks 4 = .ok (.aload_n 0, 1) := dk_42 (dk_at dksX3_losesMarks_0 4 rfl rfl)
theorem dX3_losesMarks_5 : decode cX3_losesMarks 5 = .ok (.getfield 13, 3) := dk_180 0 13 (dk_at dksX3_losesMarks_0 5 rfl rfl)
theorem dX3_losesMarks_8 : decode cX3_losesMarks 8 = .ok (.iload_n 1, 1) := dk_27 (dk_at dksX3_losesMarks_0 8 rfl rfl)
theorem dX3_losesMarks_9 : decode cX3_losesMarks 9 = .ok (.iconst 4, 1) := dk_7 (dk_at dksX3_losesMarks_0 9 rfl rfl)
theorem dX3_losesMarks_10 : decode cX3_losesMarks 10 = .ok (.invokestatic 63, 3) := dk_184 0 63 (dk_at dksX3_losesMarks_0 10 rfl rfl)
theorem dX3_losesMarks_13 : decode cX3_losesMarks 13 = .ok (.aload_n 0, 1) := dk_42 (dk_at dksX3_losesMarks_0 13 rfl rfl)
theorem dX3_losesMarks_14 : decode cX3_losesMarks 14 = .ok (.iload_n 1, 1) := dk_27 (dk_at dksX3_losesMarks_0 14 rfl rfl)
theorem dX3_losesMarks_15 : decode cX3_losesMarks 15 = .ok (.iconst 4, 1) := dk_7 (dk_at dksX3_losesMarks_0 15 rfl rfl)
theorem dX3_losesMarks_16 : decode cX3_losesMarks 16 = .ok (.invokevirtual 67, 3) := dk_182 0 67 (dk_at dksX3_losesMarks_0 16 rfl rfl)
theorem dX3_losesMarks_19 : decode cX3_losesMarks 19 = .ok (.i2l, 1) := dk_133 (dk_at dksX3_losesMarks_0 19 rfl rfl)
theorem dX3_losesMarks_20 : decode cX3_losesMarks 20 = .ok (.aload_n 0, 1) := dk_42 (dk_at dksX3_losesMarks_0 20 rfl rfl)
theorem dX3_losesMarks_21 : decode cX3_losesMarks 21 = .ok (.iload_n 1, 1) := dk_27 (dk_at dksX3_losesMarks_0 21 rfl rfl)
theorem dX3_losesMarks_22 : decode cX3_losesMarks 22 = .ok (.invokevirtual 104, 3) := dk_182 0 104 (dk_at dksX3_losesMarks_1 0 rfl rfl)
theorem dX3_losesMarks_25 : decode cX3_losesMarks 25 = .ok (.i2l, 1) := dk_133 (dk_at dksX3_losesMarks_1 3 rfl rfl)
theorem dX3_losesMarks_26 : decode cX3_losesMarks 26 = .ok (.lmul, 1) := dk_105 (dk_at dksX3_losesMarks_1 4 rfl rfl)
theorem dX3_losesMarks_27 : decode cX3_losesMarks 27 = .ok (.iload_n 2, 1) := dk_28 (dk_at dksX3_losesMarks_1 5 rfl rfl)
theorem dX3_losesMarks_28 : decode cX3_losesMarks 28 = .ok (.i2l, 1) := dk_133 (dk_at dksX3_losesMarks_1 6 rfl rfl)
theorem dX3_losesMarks_29 : decode cX3_losesMarks 29 = .ok (.ldiv, 1) := dk_109 (dk_at dksX3_losesMarks_1 7 rfl rfl)
theorem dX3_losesMarks_30 : decode cX3_losesMarks 30 = .ok (.l2i, 1) := dk_136 (dk_at dksX3_losesMarks_1 8 rfl rfl)
theorem dX3_losesMarks_31 : decode cX3_losesMarks 31 = .ok (.iastore, 1) := dk_79 (dk_at dksX3_losesMarks_1 9 rfl rfl)
theorem dX3_losesMarks_32 : decode cX3_losesMarks 32 = .ok (.return_, 1) := dk_177 (dk_at dksX3_losesMarks_1 10 rfl rfl)
abbrev cX3_ages : ByteArray := prog_39_method_58_code
def yX3_ages : MethodName := ⟨RX3, "ages", "(I)V"⟩
def dkwX3_ages_9 : List UInt8 := [136, 79, 42, 180, 0, 13, 27, 16, 8, 184, 0, 63, 92, 46, 22, 5, 136, 96, 79, 177]
abbrev dktX3_ages_9 : List UInt8 := dkwX3_ages_9 ++ []
def dkwX3_ages_8 : List UInt8 := [21, 4, 100, 184, 0, 77, 133, 184, 0, 86, 55, 5, 42, 180, 0, 13, 27, 16, 39, 184, 0, 63, 22, 5]
abbrev dktX3_ages_8 : List UInt8 := dkwX3_ages_8 ++ dktX3_ages_9
def dkwX3_ages_7 : List UInt8 := [184, 0, 86, 55, 5, 42, 27, 6, 182, 0, 67, 158, 0, 24, 22, 5, 3, 42, 27, 6, 182, 0, 67]
abbrev dktX3_ages_7 : List UInt8 := dkwX3_ages_7 ++ dktX3_ages_8
def dkwX3_ages_6 : List UInt8 := [96, 182, 0, 67, 133, 105, 97, 55, 5, 132, 7, 1, 167, 255, 222, 20, 1, 44, 22, 5, 20, 1, 20, 109]
abbrev dktX3_ages_6 : List UInt8 := dkwX3_ages_6 ++ dktX3_ages_7
def dkwX3_ages_5 : List UInt8 := [54, 7, 21, 7, 28, 163, 0, 34, 22, 5, 42, 27, 21, 7, 182, 0, 74, 133, 42, 27, 16, 26, 21, 7]
abbrev dktX3_ages_5 : List UInt8 := dkwX3_ages_5 ++ dktX3_ages_6
def dkwX3_ages_4 : List UInt8 := [16, 9, 184, 0, 63, 92, 46, 29, 21, 4, 100, 96, 79, 42, 27, 29, 182, 1, 16, 9, 55, 5, 4]
abbrev dktX3_ages_4 : List UInt8 := dkwX3_ages_4 ++ dktX3_ages_5
def dkwX3_ages_3 : List UInt8 := [180, 0, 13, 27, 16, 39, 184, 0, 63, 3, 79, 42, 27, 182, 0, 104, 54, 4, 42, 180, 0, 13, 27]
abbrev dktX3_ages_3 : List UInt8 := dkwX3_ages_3 ++ dktX3_ages_4
def dkwX3_ages_2 : List UInt8 := [21, 4, 96, 4, 100, 182, 0, 67, 133, 105, 20, 1, 20, 109, 136, 79, 132, 4, 255, 167, 255, 205, 42]
abbrev dktX3_ages_2 : List UInt8 := dkwX3_ages_2 ++ dktX3_ages_3
def dkwX3_ages_1 : List UInt8 := [27, 16, 39, 21, 4, 96, 184, 0, 63, 42, 27, 21, 4, 4, 100, 182, 0, 74, 133, 42, 27, 16, 13]
abbrev dktX3_ages_1 : List UInt8 := dkwX3_ages_1 ++ dktX3_ages_2
def dkwX3_ages_0 : List UInt8 := [42, 27, 182, 0, 70, 61, 42, 27, 182, 0, 104, 62, 28, 54, 4, 21, 4, 158, 0, 52, 42, 180, 0, 13]
abbrev dktX3_ages_0 : List UInt8 := dkwX3_ages_0 ++ dktX3_ages_1
theorem dksX3_ages_0 : cX3_ages.data.toList.drop 0 = dktX3_ages_0 := by decide +kernel
theorem dksX3_ages_1 : cX3_ages.data.toList.drop 24 = dktX3_ages_1 := dk_seg dksX3_ages_0 24 rfl rfl
theorem dksX3_ages_2 : cX3_ages.data.toList.drop 47 = dktX3_ages_2 := dk_seg dksX3_ages_1 23 rfl rfl
theorem dksX3_ages_3 : cX3_ages.data.toList.drop 70 = dktX3_ages_3 := dk_seg dksX3_ages_2 23 rfl rfl
theorem dksX3_ages_4 : cX3_ages.data.toList.drop 93 = dktX3_ages_4 := dk_seg dksX3_ages_3 23 rfl rfl
theorem dksX3_ages_5 : cX3_ages.data.toList.drop 116 = dktX3_ages_5 := dk_seg dksX3_ages_4 23 rfl rfl
theorem dksX3_ages_6 : cX3_ages.data.toList.drop 140 = dktX3_ages_6 := dk_seg dksX3_ages_5 24 rfl rfl
theorem dksX3_ages_7 : cX3_ages.data.toList.drop 164 = dktX3_ages_7 := dk_seg dksX3_ages_6 24 rfl rfl
theorem dksX3_ages_8 : cX3_ages.data.toList.drop 187 = dktX3_ages_8 := dk_seg dksX3_ages_7 23 rfl rfl
theorem dksX3_ages_9 : cX3_ages.data.toList.drop 211 = dktX3_ages_9 := dk_seg dksX3_ages_8 24 rfl rfl
theorem dX3_ages_0 : decode cX3_ages 0 = .ok (.aload_n 0, 1) := dk_42 (dk_at dksX3_ages_0 0 rfl rfl)
theorem dX3_ages_1 : decode cX3_ages 1 = .ok (.iload_n 1, 1) := dk_27 (dk_at dksX3_ages_0 1 rfl rfl)
theorem dX3_ages_2 : decode cX3_ages 2 = .ok (.invokevirtual 70, 3) := dk_182 0 70 (dk_at dksX3_ages_0 2 rfl rfl)
theorem dX3_ages_5 : decode cX3_ages 5 = .ok (.istore_n 2, 1) := dk_61 (dk_at dksX3_ages_0 5 rfl rfl)
theorem dX3_ages_6 : decode cX3_ages 6 = .ok (.aload_n 0, 1) := dk_42 (dk_at dksX3_ages_0 6 rfl rfl)
theorem dX3_ages_7 : decode cX3_ages 7 = .ok (.iload_n 1, 1) := dk_27 (dk_at dksX3_ages_0 7 rfl rfl)
theorem dX3_ages_8 : decode cX3_ages 8 = .ok (.invokevirtual 104, 3) := dk_182 0 104 (dk_at dksX3_ages_0 8 rfl rfl)
theorem dX3_ages_11 : decode cX3_ages 11 = .ok (.istore_n 3, 1) := dk_62 (dk_at dksX3_ages_0 11 rfl rfl)
theorem dX3_ages_12 : decode cX3_ages 12 = .ok (.iload_n 2, 1) := dk_28 (dk_at dksX3_ages_0 12 rfl rfl)
theorem dX3_ages_13 : decode cX3_ages 13 = .ok (.istore 4, 2) := dk_54 4 (dk_at dksX3_ages_0 13 rfl rfl)
theorem dX3_ages_15 : decode cX3_ages 15 = .ok (.iload 4, 2) := dk_21 4 (dk_at dksX3_ages_0 15 rfl rfl)
theorem dX3_ages_17 : decode cX3_ages 17 = .ok (.ifCond .le 52, 3) := dk_158 0 52 (dk_at dksX3_ages_0 17 rfl rfl)
theorem dX3_ages_20 : decode cX3_ages 20 = .ok (.aload_n 0, 1) := dk_42 (dk_at dksX3_ages_0 20 rfl rfl)
theorem dX3_ages_21 : decode cX3_ages 21 = .ok (.getfield 13, 3) := dk_180 0 13 (dk_at dksX3_ages_0 21 rfl rfl)
theorem dX3_ages_24 : decode cX3_ages 24 = .ok (.iload_n 1, 1) := dk_27 (dk_at dksX3_ages_1 0 rfl rfl)
theorem dX3_ages_25 : decode cX3_ages 25 = .ok (.bipush 39, 2) := dk_16 39 (dk_at dksX3_ages_1 1 rfl rfl)
theorem dX3_ages_27 : decode cX3_ages 27 = .ok (.iload 4, 2) := dk_21 4 (dk_at dksX3_ages_1 3 rfl rfl)
theorem dX3_ages_29 : decode cX3_ages 29 = .ok (.iadd, 1) := dk_96 (dk_at dksX3_ages_1 5 rfl rfl)
theorem dX3_ages_30 : decode cX3_ages 30 = .ok (.invokestatic 63, 3) := dk_184 0 63 (dk_at dksX3_ages_1 6 rfl rfl)
theorem dX3_ages_33 : decode cX3_ages 33 = .ok (.aload_n 0, 1) := dk_42 (dk_at dksX3_ages_1 9 rfl rfl)
theorem dX3_ages_34 : decode cX3_ages 34 = .ok (.iload_n 1, 1) := dk_27 (dk_at dksX3_ages_1 10 rfl rfl)
theorem dX3_ages_35 : decode cX3_ages 35 = .ok (.iload 4, 2) := dk_21 4 (dk_at dksX3_ages_1 11 rfl rfl)
theorem dX3_ages_37 : decode cX3_ages 37 = .ok (.iconst 1, 1) := dk_4 (dk_at dksX3_ages_1 13 rfl rfl)
theorem dX3_ages_38 : decode cX3_ages 38 = .ok (.isub, 1) := dk_100 (dk_at dksX3_ages_1 14 rfl rfl)
theorem dX3_ages_39 : decode cX3_ages 39 = .ok (.invokevirtual 74, 3) := dk_182 0 74 (dk_at dksX3_ages_1 15 rfl rfl)
theorem dX3_ages_42 : decode cX3_ages 42 = .ok (.i2l, 1) := dk_133 (dk_at dksX3_ages_1 18 rfl rfl)
theorem dX3_ages_43 : decode cX3_ages 43 = .ok (.aload_n 0, 1) := dk_42 (dk_at dksX3_ages_1 19 rfl rfl)
theorem dX3_ages_44 : decode cX3_ages 44 = .ok (.iload_n 1, 1) := dk_27 (dk_at dksX3_ages_1 20 rfl rfl)
theorem dX3_ages_45 : decode cX3_ages 45 = .ok (.bipush 13, 2) := dk_16 13 (dk_at dksX3_ages_1 21 rfl rfl)
theorem dX3_ages_47 : decode cX3_ages 47 = .ok (.iload 4, 2) := dk_21 4 (dk_at dksX3_ages_2 0 rfl rfl)
theorem dX3_ages_49 : decode cX3_ages 49 = .ok (.iadd, 1) := dk_96 (dk_at dksX3_ages_2 2 rfl rfl)
theorem dX3_ages_50 : decode cX3_ages 50 = .ok (.iconst 1, 1) := dk_4 (dk_at dksX3_ages_2 3 rfl rfl)
theorem dX3_ages_51 : decode cX3_ages 51 = .ok (.isub, 1) := dk_100 (dk_at dksX3_ages_2 4 rfl rfl)
theorem dX3_ages_52 : decode cX3_ages 52 = .ok (.invokevirtual 67, 3) := dk_182 0 67 (dk_at dksX3_ages_2 5 rfl rfl)
theorem dX3_ages_55 : decode cX3_ages 55 = .ok (.i2l, 1) := dk_133 (dk_at dksX3_ages_2 8 rfl rfl)
theorem dX3_ages_56 : decode cX3_ages 56 = .ok (.lmul, 1) := dk_105 (dk_at dksX3_ages_2 9 rfl rfl)
theorem dX3_ages_57 : decode cX3_ages 57 = .ok (.ldc2_w 276, 3) := dk_20 1 20 (dk_at dksX3_ages_2 10 rfl rfl)
theorem dX3_ages_60 : decode cX3_ages 60 = .ok (.ldiv, 1) := dk_109 (dk_at dksX3_ages_2 13 rfl rfl)
theorem dX3_ages_61 : decode cX3_ages 61 = .ok (.l2i, 1) := dk_136 (dk_at dksX3_ages_2 14 rfl rfl)
theorem dX3_ages_62 : decode cX3_ages 62 = .ok (.iastore, 1) := dk_79 (dk_at dksX3_ages_2 15 rfl rfl)
theorem dX3_ages_63 : decode cX3_ages 63 = .ok (.iinc 4 (-1), 3) := dk_132 4 255 (dk_at dksX3_ages_2 16 rfl rfl)
theorem dX3_ages_66 : decode cX3_ages 66 = .ok (.goto (-51), 3) := dk_167 255 205 (dk_at dksX3_ages_2 19 rfl rfl)
theorem dX3_ages_69 : decode cX3_ages 69 = .ok (.aload_n 0, 1) := dk_42 (dk_at dksX3_ages_2 22 rfl rfl)
theorem dX3_ages_70 : decode cX3_ages 70 = .ok (.getfield 13, 3) := dk_180 0 13 (dk_at dksX3_ages_3 0 rfl rfl)
theorem dX3_ages_73 : decode cX3_ages 73 = .ok (.iload_n 1, 1) := dk_27 (dk_at dksX3_ages_3 3 rfl rfl)
theorem dX3_ages_74 : decode cX3_ages 74 = .ok (.bipush 39, 2) := dk_16 39 (dk_at dksX3_ages_3 4 rfl rfl)
theorem dX3_ages_76 : decode cX3_ages 76 = .ok (.invokestatic 63, 3) := dk_184 0 63 (dk_at dksX3_ages_3 6 rfl rfl)
theorem dX3_ages_79 : decode cX3_ages 79 = .ok (.iconst 0, 1) := dk_3 (dk_at dksX3_ages_3 9 rfl rfl)
theorem dX3_ages_80 : decode cX3_ages 80 = .ok (.iastore, 1) := dk_79 (dk_at dksX3_ages_3 10 rfl rfl)
theorem dX3_ages_81 : decode cX3_ages 81 = .ok (.aload_n 0, 1) := dk_42 (dk_at dksX3_ages_3 11 rfl rfl)
theorem dX3_ages_82 : decode cX3_ages 82 = .ok (.iload_n 1, 1) := dk_27 (dk_at dksX3_ages_3 12 rfl rfl)
theorem dX3_ages_83 : decode cX3_ages 83 = .ok (.invokevirtual 104, 3) := dk_182 0 104 (dk_at dksX3_ages_3 13 rfl rfl)
theorem dX3_ages_86 : decode cX3_ages 86 = .ok (.istore 4, 2) := dk_54 4 (dk_at dksX3_ages_3 16 rfl rfl)
theorem dX3_ages_88 : decode cX3_ages 88 = .ok (.aload_n 0, 1) := dk_42 (dk_at dksX3_ages_3 18 rfl rfl)
theorem dX3_ages_89 : decode cX3_ages 89 = .ok (.getfield 13, 3) := dk_180 0 13 (dk_at dksX3_ages_3 19 rfl rfl)
theorem dX3_ages_92 : decode cX3_ages 92 = .ok (.iload_n 1, 1) := dk_27 (dk_at dksX3_ages_3 22 rfl rfl)
theorem dX3_ages_93 : decode cX3_ages 93 = .ok (.bipush 9, 2) := dk_16 9 (dk_at dksX3_ages_4 0 rfl rfl)
theorem dX3_ages_95 : decode cX3_ages 95 = .ok (.invokestatic 63, 3) := dk_184 0 63 (dk_at dksX3_ages_4 2 rfl rfl)
theorem dX3_ages_98 : decode cX3_ages 98 = .ok (.dup2, 1) := dk_92 (dk_at dksX3_ages_4 5 rfl rfl)
theorem dX3_ages_99 : decode cX3_ages 99 = .ok (.iaload, 1) := dk_46 (dk_at dksX3_ages_4 6 rfl rfl)
theorem dX3_ages_100 : decode cX3_ages 100 = .ok (.iload_n 3, 1) := dk_29 (dk_at dksX3_ages_4 7 rfl rfl)
theorem dX3_ages_101 : decode cX3_ages 101 = .ok (.iload 4, 2) := dk_21 4 (dk_at dksX3_ages_4 8 rfl rfl)
theorem dX3_ages_103 : decode cX3_ages 103 = .ok (.isub, 1) := dk_100 (dk_at dksX3_ages_4 10 rfl rfl)
theorem dX3_ages_104 : decode cX3_ages 104 = .ok (.iadd, 1) := dk_96 (dk_at dksX3_ages_4 11 rfl rfl)
theorem dX3_ages_105 : decode cX3_ages 105 = .ok (.iastore, 1) := dk_79 (dk_at dksX3_ages_4 12 rfl rfl)
theorem dX3_ages_106 : decode cX3_ages 106 = .ok (.aload_n 0, 1) := dk_42 (dk_at dksX3_ages_4 13 rfl rfl)
theorem dX3_ages_107 : decode cX3_ages 107 = .ok (.iload_n 1, 1) := dk_27 (dk_at dksX3_ages_4 14 rfl rfl)
theorem dX3_ages_108 : decode cX3_ages 108 = .ok (.iload_n 3, 1) := dk_29 (dk_at dksX3_ages_4 15 rfl rfl)
theorem dX3_ages_109 : decode cX3_ages 109 = .ok (.invokevirtual 272, 3) := dk_182 1 16 (dk_at dksX3_ages_4 16 rfl rfl)
theorem dX3_ages_112 : decode cX3_ages 112 = .ok (.lconst 0, 1) := dk_9 (dk_at dksX3_ages_4 19 rfl rfl)
theorem dX3_ages_113 : decode cX3_ages 113 = .ok (.lstore 5, 2) := dk_55 5 (dk_at dksX3_ages_4 20 rfl rfl)
theorem dX3_ages_115 : decode cX3_ages 115 = .ok (.iconst 1, 1) := dk_4 (dk_at dksX3_ages_4 22 rfl rfl)
theorem dX3_ages_116 : decode cX3_ages 116 = .ok (.istore 7, 2) := dk_54 7 (dk_at dksX3_ages_5 0 rfl rfl)
theorem dX3_ages_118 : decode cX3_ages 118 = .ok (.iload 7, 2) := dk_21 7 (dk_at dksX3_ages_5 2 rfl rfl)
theorem dX3_ages_120 : decode cX3_ages 120 = .ok (.iload_n 2, 1) := dk_28 (dk_at dksX3_ages_5 4 rfl rfl)
theorem dX3_ages_121 : decode cX3_ages 121 = .ok (.if_icmp .gt 34, 3) := dk_163 0 34 (dk_at dksX3_ages_5 5 rfl rfl)
theorem dX3_ages_124 : decode cX3_ages 124 = .ok (.lload 5, 2) := dk_22 5 (dk_at dksX3_ages_5 8 rfl rfl)
theorem dX3_ages_126 : decode cX3_ages 126 = .ok (.aload_n 0, 1) := dk_42 (dk_at dksX3_ages_5 10 rfl rfl)
theorem dX3_ages_127 : decode cX3_ages 127 = .ok (.iload_n 1, 1) := dk_27 (dk_at dksX3_ages_5 11 rfl rfl)
theorem dX3_ages_128 : decode cX3_ages 128 = .ok (.iload 7, 2) := dk_21 7 (dk_at dksX3_ages_5 12 rfl rfl)
theorem dX3_ages_130 : decode cX3_ages 130 = .ok (.invokevirtual 74, 3) := dk_182 0 74 (dk_at dksX3_ages_5 14 rfl rfl)
theorem dX3_ages_133 : decode cX3_ages 133 = .ok (.i2l, 1) := dk_133 (dk_at dksX3_ages_5 17 rfl rfl)
theorem dX3_ages_134 : decode cX3_ages 134 = .ok (.aload_n 0, 1) := dk_42 (dk_at dksX3_ages_5 18 rfl rfl)
theorem dX3_ages_135 : decode cX3_ages 135 = .ok (.iload_n 1, 1) := dk_27 (dk_at dksX3_ages_5 19 rfl rfl)
theorem dX3_ages_136 : decode cX3_ages 136 = .ok (.bipush 26, 2) := dk_16 26 (dk_at dksX3_ages_5 20 rfl rfl)
theorem dX3_ages_138 : decode cX3_ages 138 = .ok (.iload 7, 2) := dk_21 7 (dk_at dksX3_ages_5 22 rfl rfl)
theorem dX3_ages_140 : decode cX3_ages 140 = .ok (.iadd, 1) := dk_96 (dk_at dksX3_ages_6 0 rfl rfl)
theorem dX3_ages_141 : decode cX3_ages 141 = .ok (.invokevirtual 67, 3) := dk_182 0 67 (dk_at dksX3_ages_6 1 rfl rfl)
theorem dX3_ages_144 : decode cX3_ages 144 = .ok (.i2l, 1) := dk_133 (dk_at dksX3_ages_6 4 rfl rfl)
theorem dX3_ages_145 : decode cX3_ages 145 = .ok (.lmul, 1) := dk_105 (dk_at dksX3_ages_6 5 rfl rfl)
theorem dX3_ages_146 : decode cX3_ages 146 = .ok (.ladd, 1) := dk_97 (dk_at dksX3_ages_6 6 rfl rfl)
theorem dX3_ages_147 : decode cX3_ages 147 = .ok (.lstore 5, 2) := dk_55 5 (dk_at dksX3_ages_6 7 rfl rfl)
theorem dX3_ages_149 : decode cX3_ages 149 = .ok (.iinc 7 1, 3) := dk_132 7 1 (dk_at dksX3_ages_6 9 rfl rfl)
theorem dX3_ages_152 : decode cX3_ages 152 = .ok (.goto (-34), 3) := dk_167 255 222 (dk_at dksX3_ages_6 12 rfl rfl)
theorem dX3_ages_155 : decode cX3_ages 155 = .ok (.ldc2_w 300, 3) := dk_20 1 44 (dk_at dksX3_ages_6 15 rfl rfl)
theorem dX3_ages_158 : decode cX3_ages 158 = .ok (.lload 5, 2) := dk_22 5 (dk_at dksX3_ages_6 18 rfl rfl)
theorem dX3_ages_160 : decode cX3_ages 160 = .ok (.ldc2_w 276, 3) := dk_20 1 20 (dk_at dksX3_ages_6 20 rfl rfl)
theorem dX3_ages_163 : decode cX3_ages 163 = .ok (.ldiv, 1) := dk_109 (dk_at dksX3_ages_6 23 rfl rfl)
theorem dX3_ages_164 : decode cX3_ages 164 = .ok (.invokestatic 86, 3) := dk_184 0 86 (dk_at dksX3_ages_7 0 rfl rfl)
theorem dX3_ages_167 : decode cX3_ages 167 = .ok (.lstore 5, 2) := dk_55 5 (dk_at dksX3_ages_7 3 rfl rfl)
theorem dX3_ages_169 : decode cX3_ages 169 = .ok (.aload_n 0, 1) := dk_42 (dk_at dksX3_ages_7 5 rfl rfl)
theorem dX3_ages_170 : decode cX3_ages 170 = .ok (.iload_n 1, 1) := dk_27 (dk_at dksX3_ages_7 6 rfl rfl)
theorem dX3_ages_171 : decode cX3_ages 171 = .ok (.iconst 3, 1) := dk_6 (dk_at dksX3_ages_7 7 rfl rfl)
theorem dX3_ages_172 : decode cX3_ages 172 = .ok (.invokevirtual 67, 3) := dk_182 0 67 (dk_at dksX3_ages_7 8 rfl rfl)
theorem dX3_ages_175 : decode cX3_ages 175 = .ok (.ifCond .le 24, 3) := dk_158 0 24 (dk_at dksX3_ages_7 11 rfl rfl)
theorem dX3_ages_178 : decode cX3_ages 178 = .ok (.lload 5, 2) := dk_22 5 (dk_at dksX3_ages_7 14 rfl rfl)
theorem dX3_ages_180 : decode cX3_ages 180 = .ok (.iconst 0, 1) := dk_3 (dk_at dksX3_ages_7 16 rfl rfl)
theorem dX3_ages_181 : decode cX3_ages 181 = .ok (.aload_n 0, 1) := dk_42 (dk_at dksX3_ages_7 17 rfl rfl)
theorem dX3_ages_182 : decode cX3_ages 182 = .ok (.iload_n 1, 1) := dk_27 (dk_at dksX3_ages_7 18 rfl rfl)
theorem dX3_ages_183 : decode cX3_ages 183 = .ok (.iconst 3, 1) := dk_6 (dk_at dksX3_ages_7 19 rfl rfl)
theorem dX3_ages_184 : decode cX3_ages 184 = .ok (.invokevirtual 67, 3) := dk_182 0 67 (dk_at dksX3_ages_7 20 rfl rfl)
theorem dX3_ages_187 : decode cX3_ages 187 = .ok (.iload 4, 2) := dk_21 4 (dk_at dksX3_ages_8 0 rfl rfl)
theorem dX3_ages_189 : decode cX3_ages 189 = .ok (.isub, 1) := dk_100 (dk_at dksX3_ages_8 2 rfl rfl)
theorem dX3_ages_190 : decode cX3_ages 190 = .ok (.invokestatic 77, 3) := dk_184 0 77 (dk_at dksX3_ages_8 3 rfl rfl)
theorem dX3_ages_193 : decode cX3_ages 193 = .ok (.i2l, 1) := dk_133 (dk_at dksX3_ages_8 6 rfl rfl)
theorem dX3_ages_194 : decode cX3_ages 194 = .ok (.invokestatic 86, 3) := dk_184 0 86 (dk_at dksX3_ages_8 7 rfl rfl)
theorem dX3_ages_197 : decode cX3_ages 197 = .ok (.lstore 5, 2) := dk_55 5 (dk_at dksX3_ages_8 10 rfl rfl)
theorem dX3_ages_199 : decode cX3_ages 199 = .ok (.aload_n 0, 1) := dk_42 (dk_at dksX3_ages_8 12 rfl rfl)
theorem dX3_ages_200 : decode cX3_ages 200 = .ok (.getfield 13, 3) := dk_180 0 13 (dk_at dksX3_ages_8 13 rfl rfl)
theorem dX3_ages_203 : decode cX3_ages 203 = .ok (.iload_n 1, 1) := dk_27 (dk_at dksX3_ages_8 16 rfl rfl)
theorem dX3_ages_204 : decode cX3_ages 204 = .ok (.bipush 39, 2) := dk_16 39 (dk_at dksX3_ages_8 17 rfl rfl)
theorem dX3_ages_206 : decode cX3_ages 206 = .ok (.invokestatic 63, 3) := dk_184 0 63 (dk_at dksX3_ages_8 19 rfl rfl)
theorem dX3_ages_209 : decode cX3_ages 209 = .ok (.lload 5, 2) := dk_22 5 (dk_at dksX3_ages_8 22 rfl rfl)
theorem dX3_ages_211 : decode cX3_ages 211 = .ok (.l2i, 1) := dk_136 (dk_at dksX3_ages_9 0 rfl rfl)
theorem dX3_ages_212 : decode cX3_ages 212 = .ok (.iastore, 1) := dk_79 (dk_at dksX3_ages_9 1 rfl rfl)
theorem dX3_ages_213 : decode cX3_ages 213 = .ok (.aload_n 0, 1) := dk_42 (dk_at dksX3_ages_9 2 rfl rfl)
theorem dX3_ages_214 : decode cX3_ages 214 = .ok (.getfield 13, 3) := dk_180 0 13 (dk_at dksX3_ages_9 3 rfl rfl)
theorem dX3_ages_217 : decode cX3_ages 217 = .ok (.iload_n 1, 1) := dk_27 (dk_at dksX3_ages_9 6 rfl rfl)
theorem dX3_ages_218 : decode cX3_ages 218 = .ok (.bipush 8, 2) := dk_16 8 (dk_at dksX3_ages_9 7 rfl rfl)
theorem dX3_ages_220 : decode cX3_ages 220 = .ok (.invokestatic 63, 3) := dk_184 0 63 (dk_at dksX3_ages_9 9 rfl rfl)
theorem dX3_ages_223 : decode cX3_ages 223 = .ok (.dup2, 1) := dk_92 (dk_at dksX3_ages_9 12 rfl rfl)
theorem dX3_ages_224 : decode cX3_ages 224 = .ok (.iaload, 1) := dk_46 (dk_at dksX3_ages_9 13 rfl rfl)
theorem dX3_ages_225 : decode cX3_ages 225 = .ok (.lload 5, 2) := dk_22 5 (dk_at dksX3_ages_9 14 rfl rfl)
theorem dX3_ages_227 : decode cX3_ages 227 = .ok (.l2i, 1) := dk_136 (dk_at dksX3_ages_9 16 rfl rfl)
theorem dX3_ages_228 : decode cX3_ages 228 = .ok (.iadd, 1) := dk_96 (dk_at dksX3_ages_9 17 rfl rfl)
theorem dX3_ages_229 : decode cX3_ages 229 = .ok (.iastore, 1) := dk_79 (dk_at dksX3_ages_9 18 rfl rfl)
theorem dX3_ages_230 : decode cX3_ages 230 = .ok (.return_, 1) := dk_177 (dk_at dksX3_ages_9 19 rfl rfl)
abbrev cX3_goes : ByteArray := prog_39_method_94_code
def yX3_goes : MethodName := ⟨RX3, "goes", "(II)V"⟩
def dkwX3_goes_0 : List UInt8 := [3, 62, 29, 28, 162, 0, 14, 42, 27, 182, 1, 49, 132, 3, 1, 167, 255, 243, 177]
abbrev dktX3_goes_0 : List UInt8 := dkwX3_goes_0 ++ []
theorem dksX3_goes_0 : cX3_goes.data.toList.drop 0 = dktX3_goes_0 := by decide +kernel
theorem dX3_goes_0 : decode cX3_goes 0 = .ok (.iconst 0, 1) := dk_3 (dk_at dksX3_goes_0 0 rfl rfl)
theorem dX3_goes_1 : decode cX3_goes 1 = .ok (.istore_n 3, 1) := dk_62 (dk_at dksX3_goes_0 1 rfl rfl)
theorem dX3_goes_2 : decode cX3_goes 2 = .ok (.iload_n 3, 1) := dk_29 (dk_at dksX3_goes_0 2 rfl rfl)
theorem dX3_goes_3 : decode cX3_goes 3 = .ok (.iload_n 2, 1) := dk_28 (dk_at dksX3_goes_0 3 rfl rfl)
theorem dX3_goes_4 : decode cX3_goes 4 = .ok (.if_icmp .ge 14, 3) := dk_162 0 14 (dk_at dksX3_goes_0 4 rfl rfl)
theorem dX3_goes_7 : decode cX3_goes 7 = .ok (.aload_n 0, 1) := dk_42 (dk_at dksX3_goes_0 7 rfl rfl)
theorem dX3_goes_8 : decode cX3_goes 8 = .ok (.iload_n 1, 1) := dk_27 (dk_at dksX3_goes_0 8 rfl rfl)
theorem dX3_goes_9 : decode cX3_goes 9 = .ok (.invokevirtual 305, 3) := dk_182 1 49 (dk_at dksX3_goes_0 9 rfl rfl)
theorem dX3_goes_12 : decode cX3_goes 12 = .ok (.iinc 3 1, 3) := dk_132 3 1 (dk_at dksX3_goes_0 12 rfl rfl)
theorem dX3_goes_15 : decode cX3_goes 15 = .ok (.goto (-13), 3) := dk_167 255 243 (dk_at dksX3_goes_0 15 rfl rfl)
theorem dX3_goes_18 : decode cX3_goes 18 = .ok (.return_, 1) := dk_177 (dk_at dksX3_goes_0 18 rfl rfl)
abbrev cX3_totalBehind : ByteArray := prog_39_method_95_code
def yX3_totalBehind : MethodName := ⟨RX3, "totalBehind", "(II)I"⟩
def dkwX3_totalBehind_0 : List UInt8 := [42, 182, 1, 0, 42, 27, 28, 182, 1, 109, 42, 27, 182, 0, 104, 62, 42, 182, 1, 10, 29, 172]
abbrev dktX3_totalBehind_0 : List UInt8 := dkwX3_totalBehind_0 ++ []
theorem dksX3_totalBehind_0 : cX3_totalBehind.data.toList.drop 0 = dktX3_totalBehind_0 := by decide +kernel
theorem dX3_totalBehind_0 : decode cX3_totalBehind 0 = .ok (.aload_n 0, 1) := dk_42 (dk_at dksX3_totalBehind_0 0 rfl rfl)
theorem dX3_totalBehind_1 : decode cX3_totalBehind 1 = .ok (.invokevirtual 256, 3) := dk_182 1 0 (dk_at dksX3_totalBehind_0 1 rfl rfl)
theorem dX3_totalBehind_4 : decode cX3_totalBehind 4 = .ok (.aload_n 0, 1) := dk_42 (dk_at dksX3_totalBehind_0 4 rfl rfl)
theorem dX3_totalBehind_5 : decode cX3_totalBehind 5 = .ok (.iload_n 1, 1) := dk_27 (dk_at dksX3_totalBehind_0 5 rfl rfl)
theorem dX3_totalBehind_6 : decode cX3_totalBehind 6 = .ok (.iload_n 2, 1) := dk_28 (dk_at dksX3_totalBehind_0 6 rfl rfl)
theorem dX3_totalBehind_7 : decode cX3_totalBehind 7 = .ok (.invokevirtual 365, 3) := dk_182 1 109 (dk_at dksX3_totalBehind_0 7 rfl rfl)
theorem dX3_totalBehind_10 : decode cX3_totalBehind 10 = .ok (.aload_n 0, 1) := dk_42 (dk_at dksX3_totalBehind_0 10 rfl rfl)
theorem dX3_totalBehind_11 : decode cX3_totalBehind 11 = .ok (.iload_n 1, 1) := dk_27 (dk_at dksX3_totalBehind_0 11 rfl rfl)
theorem dX3_totalBehind_12 : decode cX3_totalBehind 12 = .ok (.invokevirtual 104, 3) := dk_182 0 104 (dk_at dksX3_totalBehind_0 12 rfl rfl)
theorem dX3_totalBehind_15 : decode cX3_totalBehind 15 = .ok (.istore_n 3, 1) := dk_62 (dk_at dksX3_totalBehind_0 15 rfl rfl)
theorem dX3_totalBehind_16 : decode cX3_totalBehind 16 = .ok (.aload_n 0, 1) := dk_42 (dk_at dksX3_totalBehind_0 16 rfl rfl)
theorem dX3_totalBehind_17 : decode cX3_totalBehind 17 = .ok (.invokevirtual 266, 3) := dk_182 1 10 (dk_at dksX3_totalBehind_0 17 rfl rfl)
theorem dX3_totalBehind_20 : decode cX3_totalBehind 20 = .ok (.iload_n 3, 1) := dk_29 (dk_at dksX3_totalBehind_0 20 rfl rfl)
theorem dX3_totalBehind_21 : decode cX3_totalBehind 21 = .ok (.ireturn, 1) := dk_172 (dk_at dksX3_totalBehind_0 21 rfl rfl)
abbrev cX3_totalIn : ByteArray := prog_39_method_96_code
def yX3_totalIn : MethodName := ⟨RX3, "totalIn", "(II)I"⟩
def dkwX3_totalIn_1 : List UInt8 := [3, 167, 0, 9, 42, 27, 28, 182, 1, 116, 172]
abbrev dktX3_totalIn_1 : List UInt8 := dkwX3_totalIn_1 ++ []
def dkwX3_totalIn_0 : List UInt8 := [42, 3, 181, 0, 3, 42, 27, 182, 1, 55, 154, 0, 14, 42, 28, 3, 16, 50, 182, 1, 112, 153, 0, 7]
abbrev dktX3_totalIn_0 : List UInt8 := dkwX3_totalIn_0 ++ dktX3_totalIn_1
theorem dksX3_totalIn_0 : cX3_totalIn.data.toList.drop 0 = dktX3_totalIn_0 := by decide +kernel
theorem dksX3_totalIn_1 : cX3_totalIn.data.toList.drop 24 = dktX3_totalIn_1 := dk_seg dksX3_totalIn_0 24 rfl rfl
theorem dX3_totalIn_0 : decode cX3_totalIn 0 = .ok (.aload_n 0, 1) := dk_42 (dk_at dksX3_totalIn_0 0 rfl rfl)
theorem dX3_totalIn_1 : decode cX3_totalIn 1 = .ok (.iconst 0, 1) := dk_3 (dk_at dksX3_totalIn_0 1 rfl rfl)
theorem dX3_totalIn_2 : decode cX3_totalIn 2 = .ok (.putfield 3, 3) := dk_181 0 3 (dk_at dksX3_totalIn_0 2 rfl rfl)
theorem dX3_totalIn_5 : decode cX3_totalIn 5 = .ok (.aload_n 0, 1) := dk_42 (dk_at dksX3_totalIn_0 5 rfl rfl)
theorem dX3_totalIn_6 : decode cX3_totalIn 6 = .ok (.iload_n 1, 1) := dk_27 (dk_at dksX3_totalIn_0 6 rfl rfl)
theorem dX3_totalIn_7 : decode cX3_totalIn 7 = .ok (.invokevirtual 311, 3) := dk_182 1 55 (dk_at dksX3_totalIn_0 7 rfl rfl)
theorem dX3_totalIn_10 : decode cX3_totalIn 10 = .ok (.ifCond .ne 14, 3) := dk_154 0 14 (dk_at dksX3_totalIn_0 10 rfl rfl)
theorem dX3_totalIn_13 : decode cX3_totalIn 13 = .ok (.aload_n 0, 1) := dk_42 (dk_at dksX3_totalIn_0 13 rfl rfl)
theorem dX3_totalIn_14 : decode cX3_totalIn 14 = .ok (.iload_n 2, 1) := dk_28 (dk_at dksX3_totalIn_0 14 rfl rfl)
theorem dX3_totalIn_15 : decode cX3_totalIn 15 = .ok (.iconst 0, 1) := dk_3 (dk_at dksX3_totalIn_0 15 rfl rfl)
theorem dX3_totalIn_16 : decode cX3_totalIn 16 = .ok (.bipush 50, 2) := dk_16 50 (dk_at dksX3_totalIn_0 16 rfl rfl)
theorem dX3_totalIn_18 : decode cX3_totalIn 18 = .ok (.invokevirtual 368, 3) := dk_182 1 112 (dk_at dksX3_totalIn_0 18 rfl rfl)
theorem dX3_totalIn_21 : decode cX3_totalIn 21 = .ok (.ifCond .eq 7, 3) := dk_153 0 7 (dk_at dksX3_totalIn_0 21 rfl rfl)
theorem dX3_totalIn_24 : decode cX3_totalIn 24 = .ok (.iconst 0, 1) := dk_3 (dk_at dksX3_totalIn_1 0 rfl rfl)
theorem dX3_totalIn_25 : decode cX3_totalIn 25 = .ok (.goto 9, 3) := dk_167 0 9 (dk_at dksX3_totalIn_1 1 rfl rfl)
theorem dX3_totalIn_28 : decode cX3_totalIn 28 = .ok (.aload_n 0, 1) := dk_42 (dk_at dksX3_totalIn_1 4 rfl rfl)
theorem dX3_totalIn_29 : decode cX3_totalIn 29 = .ok (.iload_n 1, 1) := dk_27 (dk_at dksX3_totalIn_1 5 rfl rfl)
theorem dX3_totalIn_30 : decode cX3_totalIn 30 = .ok (.iload_n 2, 1) := dk_28 (dk_at dksX3_totalIn_1 6 rfl rfl)
theorem dX3_totalIn_31 : decode cX3_totalIn 31 = .ok (.invokevirtual 372, 3) := dk_182 1 116 (dk_at dksX3_totalIn_1 7 rfl rfl)
theorem dX3_totalIn_34 : decode cX3_totalIn 34 = .ok (.ireturn, 1) := dk_172 (dk_at dksX3_totalIn_1 10 rfl rfl)
abbrev cX3_share : ByteArray := prog_39_method_97_code
def yX3_share : MethodName := ⟨RX3, "share", "(III)D"⟩
def dkwX3_share_3 : List UInt8 := [135, 111, 175]
abbrev dktX3_share_3 : List UInt8 := dkwX3_share_3 ++ []
def dkwX3_share_2 : List UInt8 := [27, 182, 0, 104, 54, 5, 42, 182, 1, 10, 21, 5, 154, 0, 7, 14, 167, 0, 10, 21, 4, 135, 21, 5]
abbrev dktX3_share_2 : List UInt8 := dkwX3_share_2 ++ dktX3_share_3
def dkwX3_share_1 : List UInt8 := [153, 0, 5, 14, 175, 42, 182, 1, 0, 42, 27, 29, 182, 1, 109, 42, 27, 28, 182, 0, 74, 54, 4, 42]
abbrev dktX3_share_1 : List UInt8 := dkwX3_share_1 ++ dktX3_share_2
def dkwX3_share_0 : List UInt8 := [42, 3, 181, 0, 3, 42, 27, 28, 182, 1, 66, 154, 0, 14, 42, 29, 3, 16, 50, 182, 1, 112]
abbrev dktX3_share_0 : List UInt8 := dkwX3_share_0 ++ dktX3_share_1
theorem dksX3_share_0 : cX3_share.data.toList.drop 0 = dktX3_share_0 := by decide +kernel
theorem dksX3_share_1 : cX3_share.data.toList.drop 22 = dktX3_share_1 := dk_seg dksX3_share_0 22 rfl rfl
theorem dksX3_share_2 : cX3_share.data.toList.drop 46 = dktX3_share_2 := dk_seg dksX3_share_1 24 rfl rfl
theorem dksX3_share_3 : cX3_share.data.toList.drop 70 = dktX3_share_3 := dk_seg dksX3_share_2 24 rfl rfl
theorem dX3_share_0 : decode cX3_share 0 = .ok (.aload_n 0, 1) := dk_42 (dk_at dksX3_share_0 0 rfl rfl)
theorem dX3_share_1 : decode cX3_share 1 = .ok (.iconst 0, 1) := dk_3 (dk_at dksX3_share_0 1 rfl rfl)
theorem dX3_share_2 : decode cX3_share 2 = .ok (.putfield 3, 3) := dk_181 0 3 (dk_at dksX3_share_0 2 rfl rfl)
theorem dX3_share_5 : decode cX3_share 5 = .ok (.aload_n 0, 1) := dk_42 (dk_at dksX3_share_0 5 rfl rfl)
theorem dX3_share_6 : decode cX3_share 6 = .ok (.iload_n 1, 1) := dk_27 (dk_at dksX3_share_0 6 rfl rfl)
theorem dX3_share_7 : decode cX3_share 7 = .ok (.iload_n 2, 1) := dk_28 (dk_at dksX3_share_0 7 rfl rfl)
theorem dX3_share_8 : decode cX3_share 8 = .ok (.invokevirtual 322, 3) := dk_182 1 66 (dk_at dksX3_share_0 8 rfl rfl)
theorem dX3_share_11 : decode cX3_share 11 = .ok (.ifCond .ne 14, 3) := dk_154 0 14 (dk_at dksX3_share_0 11 rfl rfl)
theorem dX3_share_14 : decode cX3_share 14 = .ok (.aload_n 0, 1) := dk_42 (dk_at dksX3_share_0 14 rfl rfl)
theorem dX3_share_15 : decode cX3_share 15 = .ok (.iload_n 3, 1) := dk_29 (dk_at dksX3_share_0 15 rfl rfl)
theorem dX3_share_16 : decode cX3_share 16 = .ok (.iconst 0, 1) := dk_3 (dk_at dksX3_share_0 16 rfl rfl)
theorem dX3_share_17 : decode cX3_share 17 = .ok (.bipush 50, 2) := dk_16 50 (dk_at dksX3_share_0 17 rfl rfl)
theorem dX3_share_19 : decode cX3_share 19 = .ok (.invokevirtual 368, 3) := dk_182 1 112 (dk_at dksX3_share_0 19 rfl rfl)
theorem dX3_share_22 : decode cX3_share 22 = .ok (.ifCond .eq 5, 3) := dk_153 0 5 (dk_at dksX3_share_1 0 rfl rfl)
theorem dX3_share_25 : decode cX3_share 25 = .ok (.dconst 0, 1) := dk_14 (dk_at dksX3_share_1 3 rfl rfl)
theorem dX3_share_26 : decode cX3_share 26 = .ok (.dreturn, 1) := dk_175 (dk_at dksX3_share_1 4 rfl rfl)
theorem dX3_share_27 : decode cX3_share 27 = .ok (.aload_n 0, 1) := dk_42 (dk_at dksX3_share_1 5 rfl rfl)
theorem dX3_share_28 : decode cX3_share 28 = .ok (.invokevirtual 256, 3) := dk_182 1 0 (dk_at dksX3_share_1 6 rfl rfl)
theorem dX3_share_31 : decode cX3_share 31 = .ok (.aload_n 0, 1) := dk_42 (dk_at dksX3_share_1 9 rfl rfl)
theorem dX3_share_32 : decode cX3_share 32 = .ok (.iload_n 1, 1) := dk_27 (dk_at dksX3_share_1 10 rfl rfl)
theorem dX3_share_33 : decode cX3_share 33 = .ok (.iload_n 3, 1) := dk_29 (dk_at dksX3_share_1 11 rfl rfl)
theorem dX3_share_34 : decode cX3_share 34 = .ok (.invokevirtual 365, 3) := dk_182 1 109 (dk_at dksX3_share_1 12 rfl rfl)
theorem dX3_share_37 : decode cX3_share 37 = .ok (.aload_n 0, 1) := dk_42 (dk_at dksX3_share_1 15 rfl rfl)
theorem dX3_share_38 : decode cX3_share 38 = .ok (.iload_n 1, 1) := dk_27 (dk_at dksX3_share_1 16 rfl rfl)
theorem dX3_share_39 : decode cX3_share 39 = .ok (.iload_n 2, 1) := dk_28 (dk_at dksX3_share_1 17 rfl rfl)
theorem dX3_share_40 : decode cX3_share 40 = .ok (.invokevirtual 74, 3) := dk_182 0 74 (dk_at dksX3_share_1 18 rfl rfl)
theorem dX3_share_43 : decode cX3_share 43 = .ok (.istore 4, 2) := dk_54 4 (dk_at dksX3_share_1 21 rfl rfl)
theorem dX3_share_45 : decode cX3_share 45 = .ok (.aload_n 0, 1) := dk_42 (dk_at dksX3_share_1 23 rfl rfl)
theorem dX3_share_46 : decode cX3_share 46 = .ok (.iload_n 1, 1) := dk_27 (dk_at dksX3_share_2 0 rfl rfl)
theorem dX3_share_47 : decode cX3_share 47 = .ok (.invokevirtual 104, 3) := dk_182 0 104 (dk_at dksX3_share_2 1 rfl rfl)
theorem dX3_share_50 : decode cX3_share 50 = .ok (.istore 5, 2) := dk_54 5 (dk_at dksX3_share_2 4 rfl rfl)
theorem dX3_share_52 : decode cX3_share 52 = .ok (.aload_n 0, 1) := dk_42 (dk_at dksX3_share_2 6 rfl rfl)
theorem dX3_share_53 : decode cX3_share 53 = .ok (.invokevirtual 266, 3) := dk_182 1 10 (dk_at dksX3_share_2 7 rfl rfl)
theorem dX3_share_56 : decode cX3_share 56 = .ok (.iload 5, 2) := dk_21 5 (dk_at dksX3_share_2 10 rfl rfl)
theorem dX3_share_58 : decode cX3_share 58 = .ok (.ifCond .ne 7, 3) := dk_154 0 7 (dk_at dksX3_share_2 12 rfl rfl)
theorem dX3_share_61 : decode cX3_share 61 = .ok (.dconst 0, 1) := dk_14 (dk_at dksX3_share_2 15 rfl rfl)
theorem dX3_share_62 : decode cX3_share 62 = .ok (.goto 10, 3) := dk_167 0 10 (dk_at dksX3_share_2 16 rfl rfl)
theorem dX3_share_65 : decode cX3_share 65 = .ok (.iload 4, 2) := dk_21 4 (dk_at dksX3_share_2 19 rfl rfl)
theorem dX3_share_67 : decode cX3_share 67 = .ok (.i2d, 1) := dk_135 (dk_at dksX3_share_2 21 rfl rfl)
theorem dX3_share_68 : decode cX3_share 68 = .ok (.iload 5, 2) := dk_21 5 (dk_at dksX3_share_2 22 rfl rfl)
theorem dX3_share_70 : decode cX3_share 70 = .ok (.i2d, 1) := dk_135 (dk_at dksX3_share_3 0 rfl rfl)
theorem dX3_share_71 : decode cX3_share 71 = .ok (.ddiv, 1) := dk_111 (dk_at dksX3_share_3 1 rfl rfl)
theorem dX3_share_72 : decode cX3_share 72 = .ok (.dreturn, 1) := dk_175 (dk_at dksX3_share_3 2 rfl rfl)
abbrev cX3_growth : ByteArray := prog_39_method_98_code
def yX3_growth : MethodName := ⟨RX3, "growth", "(II)D"⟩
def dkwX3_growth_2 : List UInt8 := [182, 1, 116, 135, 29, 135, 111, 175]
abbrev dktX3_growth_2 : List UInt8 := dkwX3_growth_2 ++ []
def dkwX3_growth_1 : List UInt8 := [14, 175, 42, 27, 28, 4, 100, 182, 1, 116, 62, 29, 154, 0, 7, 14, 167, 0, 13, 42, 27, 28]
abbrev dktX3_growth_1 : List UInt8 := dkwX3_growth_1 ++ dktX3_growth_2
def dkwX3_growth_0 : List UInt8 := [42, 3, 181, 0, 3, 42, 27, 182, 1, 55, 154, 0, 14, 42, 28, 4, 16, 50, 182, 1, 112, 153, 0, 5]
abbrev dktX3_growth_0 : List UInt8 := dkwX3_growth_0 ++ dktX3_growth_1
theorem dksX3_growth_0 : cX3_growth.data.toList.drop 0 = dktX3_growth_0 := by decide +kernel
theorem dksX3_growth_1 : cX3_growth.data.toList.drop 24 = dktX3_growth_1 := dk_seg dksX3_growth_0 24 rfl rfl
theorem dksX3_growth_2 : cX3_growth.data.toList.drop 46 = dktX3_growth_2 := dk_seg dksX3_growth_1 22 rfl rfl
theorem dX3_growth_0 : decode cX3_growth 0 = .ok (.aload_n 0, 1) := dk_42 (dk_at dksX3_growth_0 0 rfl rfl)
theorem dX3_growth_1 : decode cX3_growth 1 = .ok (.iconst 0, 1) := dk_3 (dk_at dksX3_growth_0 1 rfl rfl)
theorem dX3_growth_2 : decode cX3_growth 2 = .ok (.putfield 3, 3) := dk_181 0 3 (dk_at dksX3_growth_0 2 rfl rfl)
theorem dX3_growth_5 : decode cX3_growth 5 = .ok (.aload_n 0, 1) := dk_42 (dk_at dksX3_growth_0 5 rfl rfl)
theorem dX3_growth_6 : decode cX3_growth 6 = .ok (.iload_n 1, 1) := dk_27 (dk_at dksX3_growth_0 6 rfl rfl)
theorem dX3_growth_7 : decode cX3_growth 7 = .ok (.invokevirtual 311, 3) := dk_182 1 55 (dk_at dksX3_growth_0 7 rfl rfl)
theorem dX3_growth_10 : decode cX3_growth 10 = .ok (.ifCond .ne 14, 3) := dk_154 0 14 (dk_at dksX3_growth_0 10 rfl rfl)
theorem dX3_growth_13 : decode cX3_growth 13 = .ok (.aload_n 0, 1) := dk_42 (dk_at dksX3_growth_0 13 rfl rfl)
theorem dX3_growth_14 : decode cX3_growth 14 = .ok (.iload_n 2, 1) := dk_28 (dk_at dksX3_growth_0 14 rfl rfl)
theorem dX3_growth_15 : decode cX3_growth 15 = .ok (.iconst 1, 1) := dk_4 (dk_at dksX3_growth_0 15 rfl rfl)
theorem dX3_growth_16 : decode cX3_growth 16 = .ok (.bipush 50, 2) := dk_16 50 (dk_at dksX3_growth_0 16 rfl rfl)
theorem dX3_growth_18 : decode cX3_growth 18 = .ok (.invokevirtual 368, 3) := dk_182 1 112 (dk_at dksX3_growth_0 18 rfl rfl)
theorem dX3_growth_21 : decode cX3_growth 21 = .ok (.ifCond .eq 5, 3) := dk_153 0 5 (dk_at dksX3_growth_0 21 rfl rfl)
theorem dX3_growth_24 : decode cX3_growth 24 = .ok (.dconst 0, 1) := dk_14 (dk_at dksX3_growth_1 0 rfl rfl)
theorem dX3_growth_25 : decode cX3_growth 25 = .ok (.dreturn, 1) := dk_175 (dk_at dksX3_growth_1 1 rfl rfl)
theorem dX3_growth_26 : decode cX3_growth 26 = .ok (.aload_n 0, 1) := dk_42 (dk_at dksX3_growth_1 2 rfl rfl)
theorem dX3_growth_27 : decode cX3_growth 27 = .ok (.iload_n 1, 1) := dk_27 (dk_at dksX3_growth_1 3 rfl rfl)
theorem dX3_growth_28 : decode cX3_growth 28 = .ok (.iload_n 2, 1) := dk_28 (dk_at dksX3_growth_1 4 rfl rfl)
theorem dX3_growth_29 : decode cX3_growth 29 = .ok (.iconst 1, 1) := dk_4 (dk_at dksX3_growth_1 5 rfl rfl)
theorem dX3_growth_30 : decode cX3_growth 30 = .ok (.isub, 1) := dk_100 (dk_at dksX3_growth_1 6 rfl rfl)
theorem dX3_growth_31 : decode cX3_growth 31 = .ok (.invokevirtual 372, 3) := dk_182 1 116 (dk_at dksX3_growth_1 7 rfl rfl)
theorem dX3_growth_34 : decode cX3_growth 34 = .ok (.istore_n 3, 1) := dk_62 (dk_at dksX3_growth_1 10 rfl rfl)
theorem dX3_growth_35 : decode cX3_growth 35 = .ok (.iload_n 3, 1) := dk_29 (dk_at dksX3_growth_1 11 rfl rfl)
theorem dX3_growth_36 : decode cX3_growth 36 = .ok (.ifCond .ne 7, 3) := dk_154 0 7 (dk_at dksX3_growth_1 12 rfl rfl)
theorem dX3_growth_39 : decode cX3_growth 39 = .ok (.dconst 0, 1) := dk_14 (dk_at dksX3_growth_1 15 rfl rfl)
theorem dX3_growth_40 : decode cX3_growth 40 = .ok (.goto 13, 3) := dk_167 0 13 (dk_at dksX3_growth_1 16 rfl rfl)
theorem dX3_growth_43 : decode cX3_growth 43 = .ok (.aload_n 0, 1) := dk_42 (dk_at dksX3_growth_1 19 rfl rfl)
theorem dX3_growth_44 : decode cX3_growth 44 = .ok (.iload_n 1, 1) := dk_27 (dk_at dksX3_growth_1 20 rfl rfl)
theorem dX3_growth_45 : decode cX3_growth 45 = .ok (.iload_n 2, 1) := dk_28 (dk_at dksX3_growth_1 21 rfl rfl)
theorem dX3_growth_46 : decode cX3_growth 46 = .ok (.invokevirtual 372, 3) := dk_182 1 116 (dk_at dksX3_growth_2 0 rfl rfl)
theorem dX3_growth_49 : decode cX3_growth 49 = .ok (.i2d, 1) := dk_135 (dk_at dksX3_growth_2 3 rfl rfl)
theorem dX3_growth_50 : decode cX3_growth 50 = .ok (.iload_n 3, 1) := dk_29 (dk_at dksX3_growth_2 4 rfl rfl)
theorem dX3_growth_51 : decode cX3_growth 51 = .ok (.i2d, 1) := dk_135 (dk_at dksX3_growth_2 5 rfl rfl)
theorem dX3_growth_52 : decode cX3_growth 52 = .ok (.ddiv, 1) := dk_111 (dk_at dksX3_growth_2 6 rfl rfl)
theorem dX3_growth_53 : decode cX3_growth 53 = .ok (.dreturn, 1) := dk_175 (dk_at dksX3_growth_2 7 rfl rfl)
abbrev cX3_below : ByteArray := prog_39_method_99_code
def yX3_below : MethodName := ⟨RX3, "below", "(II)I"⟩
def dkwX3_below_2 : List UInt8 := [42, 27, 182, 1, 49, 132, 4, 1, 167, 255, 224, 42, 182, 1, 10, 29, 172]
abbrev dktX3_below_2 : List UInt8 := dkwX3_below_2 ++ []
def dkwX3_below_1 : List UInt8 := [21, 4, 16, 50, 163, 0, 31, 29, 2, 160, 0, 26, 42, 27, 182, 0, 104, 28, 162, 0, 6, 21, 4, 62]
abbrev dktX3_below_1 : List UInt8 := dkwX3_below_1 ++ dktX3_below_2
def dkwX3_below_0 : List UInt8 := [42, 3, 181, 0, 3, 42, 27, 182, 1, 55, 153, 0, 5, 3, 172, 2, 62, 42, 182, 1, 0, 3, 54, 4]
abbrev dktX3_below_0 : List UInt8 := dkwX3_below_0 ++ dktX3_below_1
theorem dksX3_below_0 : cX3_below.data.toList.drop 0 = dktX3_below_0 := by decide +kernel
theorem dksX3_below_1 : cX3_below.data.toList.drop 24 = dktX3_below_1 := dk_seg dksX3_below_0 24 rfl rfl
theorem dksX3_below_2 : cX3_below.data.toList.drop 48 = dktX3_below_2 := dk_seg dksX3_below_1 24 rfl rfl
theorem dX3_below_0 : decode cX3_below 0 = .ok (.aload_n 0, 1) := dk_42 (dk_at dksX3_below_0 0 rfl rfl)
theorem dX3_below_1 : decode cX3_below 1 = .ok (.iconst 0, 1) := dk_3 (dk_at dksX3_below_0 1 rfl rfl)
theorem dX3_below_2 : decode cX3_below 2 = .ok (.putfield 3, 3) := dk_181 0 3 (dk_at dksX3_below_0 2 rfl rfl)
theorem dX3_below_5 : decode cX3_below 5 = .ok (.aload_n 0, 1) := dk_42 (dk_at dksX3_below_0 5 rfl rfl)
theorem dX3_below_6 : decode cX3_below 6 = .ok (.iload_n 1, 1) := dk_27 (dk_at dksX3_below_0 6 rfl rfl)
theorem dX3_below_7 : decode cX3_below 7 = .ok (.invokevirtual 311, 3) := dk_182 1 55 (dk_at dksX3_below_0 7 rfl rfl)
theorem dX3_below_10 : decode cX3_below 10 = .ok (.ifCond .eq 5, 3) := dk_153 0 5 (dk_at dksX3_below_0 10 rfl rfl)
theorem dX3_below_13 : decode cX3_below 13 = .ok (.iconst 0, 1) := dk_3 (dk_at dksX3_below_0 13 rfl rfl)
theorem dX3_below_14 : decode cX3_below 14 = .ok (.ireturn, 1) := dk_172 (dk_at dksX3_below_0 14 rfl rfl)
theorem dX3_below_15 : decode cX3_below 15 = .ok (.iconst (-1), 1) := dk_2 (dk_at dksX3_below_0 15 rfl rfl)
theorem dX3_below_16 : decode cX3_below 16 = .ok (.istore_n 3, 1) := dk_62 (dk_at dksX3_below_0 16 rfl rfl)
theorem dX3_below_17 : decode cX3_below 17 = .ok (.aload_n 0, 1) := dk_42 (dk_at dksX3_below_0 17 rfl rfl)
theorem dX3_below_18 : decode cX3_below 18 = .ok (.invokevirtual 256, 3) := dk_182 1 0 (dk_at dksX3_below_0 18 rfl rfl)
theorem dX3_below_21 : decode cX3_below 21 = .ok (.iconst 0, 1) := dk_3 (dk_at dksX3_below_0 21 rfl rfl)
theorem dX3_below_22 : decode cX3_below 22 = .ok (.istore 4, 2) := dk_54 4 (dk_at dksX3_below_0 22 rfl rfl)
theorem dX3_below_24 : decode cX3_below 24 = .ok (.iload 4, 2) := dk_21 4 (dk_at dksX3_below_1 0 rfl rfl)
theorem dX3_below_26 : decode cX3_below 26 = .ok (.bipush 50, 2) := dk_16 50 (dk_at dksX3_below_1 2 rfl rfl)
theorem dX3_below_28 : decode cX3_below 28 = .ok (.if_icmp .gt 31, 3) := dk_163 0 31 (dk_at dksX3_below_1 4 rfl rfl)
theorem dX3_below_31 : decode cX3_below 31 = .ok (.iload_n 3, 1) := dk_29 (dk_at dksX3_below_1 7 rfl rfl)
theorem dX3_below_32 : decode cX3_below 32 = .ok (.iconst (-1), 1) := dk_2 (dk_at dksX3_below_1 8 rfl rfl)
theorem dX3_below_33 : decode cX3_below 33 = .ok (.if_icmp .ne 26, 3) := dk_160 0 26 (dk_at dksX3_below_1 9 rfl rfl)
theorem dX3_below_36 : decode cX3_below 36 = .ok (.aload_n 0, 1) := dk_42 (dk_at dksX3_below_1 12 rfl rfl)
theorem dX3_below_37 : decode cX3_below 37 = .ok (.iload_n 1, 1) := dk_27 (dk_at dksX3_below_1 13 rfl rfl)
theorem dX3_below_38 : decode cX3_below 38 = .ok (.invokevirtual 104, 3) := dk_182 0 104 (dk_at dksX3_below_1 14 rfl rfl)
theorem dX3_below_41 : decode cX3_below 41 = .ok (.iload_n 2, 1) := dk_28 (dk_at dksX3_below_1 17 rfl rfl)
theorem dX3_below_42 : decode cX3_below 42 = .ok (.if_icmp .ge 6, 3) := dk_162 0 6 (dk_at dksX3_below_1 18 rfl rfl)
theorem dX3_below_45 : decode cX3_below 45 = .ok (.iload 4, 2) := dk_21 4 (dk_at dksX3_below_1 21 rfl rfl)
theorem dX3_below_47 : decode cX3_below 47 = .ok (.istore_n 3, 1) := dk_62 (dk_at dksX3_below_1 23 rfl rfl)
theorem dX3_below_48 : decode cX3_below 48 = .ok (.aload_n 0, 1) := dk_42 (dk_at dksX3_below_2 0 rfl rfl)
theorem dX3_below_49 : decode cX3_below 49 = .ok (.iload_n 1, 1) := dk_27 (dk_at dksX3_below_2 1 rfl rfl)
theorem dX3_below_50 : decode cX3_below 50 = .ok (.invokevirtual 305, 3) := dk_182 1 49 (dk_at dksX3_below_2 2 rfl rfl)
theorem dX3_below_53 : decode cX3_below 53 = .ok (.iinc 4 1, 3) := dk_132 4 1 (dk_at dksX3_below_2 5 rfl rfl)
theorem dX3_below_56 : decode cX3_below 56 = .ok (.goto (-32), 3) := dk_167 255 224 (dk_at dksX3_below_2 8 rfl rfl)
theorem dX3_below_59 : decode cX3_below 59 = .ok (.aload_n 0, 1) := dk_42 (dk_at dksX3_below_2 11 rfl rfl)
theorem dX3_below_60 : decode cX3_below 60 = .ok (.invokevirtual 266, 3) := dk_182 1 10 (dk_at dksX3_below_2 12 rfl rfl)
theorem dX3_below_63 : decode cX3_below 63 = .ok (.iload_n 3, 1) := dk_29 (dk_at dksX3_below_2 15 rfl rfl)
theorem dX3_below_64 : decode cX3_below 64 = .ok (.ireturn, 1) := dk_172 (dk_at dksX3_below_2 16 rfl rfl)
abbrev cX3_takesOldest : ByteArray := prog_39_method_100_code
def yX3_takesOldest : MethodName := ⟨RX3, "takesOldest", "(II)Z"⟩
def dkwX3_takesOldest_3 : List UInt8 := [3, 172]
abbrev dktX3_takesOldest_3 : List UInt8 := dkwX3_takesOldest_3 ++ []
def dkwX3_takesOldest_2 : List UInt8 := [46, 21, 5, 100, 79, 29, 21, 5, 100, 62, 132, 4, 255, 167, 255, 205, 29, 154, 0, 7, 4, 167, 0, 4]
abbrev dktX3_takesOldest_2 : List UInt8 := dkwX3_takesOldest_2 ++ dktX3_takesOldest_3
def dkwX3_takesOldest_1 : List UInt8 := [21, 4, 182, 0, 74, 184, 1, 23, 54, 5, 42, 180, 0, 13, 27, 16, 39, 21, 4, 96, 184, 0, 63, 92]
abbrev dktX3_takesOldest_1 : List UInt8 := dkwX3_takesOldest_1 ++ dktX3_takesOldest_2
def dkwX3_takesOldest_0 : List UInt8 := [28, 62, 42, 27, 182, 0, 70, 54, 4, 21, 4, 42, 27, 5, 182, 0, 67, 161, 0, 46, 29, 42, 27]
abbrev dktX3_takesOldest_0 : List UInt8 := dkwX3_takesOldest_0 ++ dktX3_takesOldest_1
theorem dksX3_takesOldest_0 : cX3_takesOldest.data.toList.drop 0 = dktX3_takesOldest_0 := by decide +kernel
theorem dksX3_takesOldest_1 : cX3_takesOldest.data.toList.drop 23 = dktX3_takesOldest_1 := dk_seg dksX3_takesOldest_0 23 rfl rfl
theorem dksX3_takesOldest_2 : cX3_takesOldest.data.toList.drop 47 = dktX3_takesOldest_2 := dk_seg dksX3_takesOldest_1 24 rfl rfl
theorem dksX3_takesOldest_3 : cX3_takesOldest.data.toList.drop 71 = dktX3_takesOldest_3 := dk_seg dksX3_takesOldest_2 24 rfl rfl
theorem dX3_takesOldest_0 : decode cX3_takesOldest 0 = .ok (.iload_n 2, 1) := dk_28 (dk_at dksX3_takesOldest_0 0 rfl rfl)
theorem dX3_takesOldest_1 : decode cX3_takesOldest 1 = .ok (.istore_n 3, 1) := dk_62 (dk_at dksX3_takesOldest_0 1 rfl rfl)
theorem dX3_takesOldest_2 : decode cX3_takesOldest 2 = .ok (.aload_n 0, 1) := dk_42 (dk_at dksX3_takesOldest_0 2 rfl rfl)
theorem dX3_takesOldest_3 : decode cX3_takesOldest 3 = .ok (.iload_n 1, 1) := dk_27 (dk_at dksX3_takesOldest_0 3 rfl rfl)
theorem dX3_takesOldest_4 : decode cX3_takesOldest 4 = .ok (.invokevirtual 70, 3) := dk_182 0 70 (dk_at dksX3_takesOldest_0 4 rfl rfl)
theorem dX3_takesOldest_7 : decode cX3_takesOldest 7 = .ok (.istore 4, 2) := dk_54 4 (dk_at dksX3_takesOldest_0 7 rfl rfl)
theorem dX3_takesOldest_9 : decode cX3_takesOldest 9 = .ok (.iload 4, 2) := dk_21 4 (dk_at dksX3_takesOldest_0 9 rfl rfl)
theorem dX3_takesOldest_11 : decode cX3_takesOldest 11 = .ok (.aload_n 0, 1) := dk_42 (dk_at dksX3_takesOldest_0 11 rfl rfl)
theorem dX3_takesOldest_12 : decode cX3_takesOldest 12 = .ok (.iload_n 1, 1) := dk_27 (dk_at dksX3_takesOldest_0 12 rfl rfl)
theorem dX3_takesOldest_13 : decode cX3_takesOldest 13 = .ok (.iconst 2, 1) := dk_5 (dk_at dksX3_takesOldest_0 13 rfl rfl)
theorem dX3_takesOldest_14 : decode cX3_takesOldest 14 = .ok (.invokevirtual 67, 3) := dk_182 0 67 (dk_at dksX3_takesOldest_0 14 rfl rfl)
theorem dX3_takesOldest_17 : decode cX3_takesOldest 17 = .ok (.if_icmp .lt 46, 3) := dk_161 0 46 (dk_at dksX3_takesOldest_0 17 rfl rfl)
theorem dX3_takesOldest_20 : decode cX3_takesOldest 20 = .ok (.iload_n 3, 1) := dk_29 (dk_at dksX3_takesOldest_0 20 rfl rfl)
theorem dX3_takesOldest_21 : decode cX3_takesOldest 21 = .ok (.aload_n 0, 1) := dk_42 (dk_at dksX3_takesOldest_0 21 rfl rfl)
theorem dX3_takesOldest_22 : decode cX3_takesOldest 22 = .ok (.iload_n 1, 1) := dk_27 (dk_at dksX3_takesOldest_0 22 rfl rfl)
theorem dX3_takesOldest_23 : decode cX3_takesOldest 23 = .ok (.iload 4, 2) := dk_21 4 (dk_at dksX3_takesOldest_1 0 rfl rfl)
theorem dX3_takesOldest_25 : decode cX3_takesOldest 25 = .ok (.invokevirtual 74, 3) := dk_182 0 74 (dk_at dksX3_takesOldest_1 2 rfl rfl)
theorem dX3_takesOldest_28 : decode cX3_takesOldest 28 = .ok (.invokestatic 279, 3) := dk_184 1 23 (dk_at dksX3_takesOldest_1 5 rfl rfl)
theorem dX3_takesOldest_31 : decode cX3_takesOldest 31 = .ok (.istore 5, 2) := dk_54 5 (dk_at dksX3_takesOldest_1 8 rfl rfl)
theorem dX3_takesOldest_33 : decode cX3_takesOldest 33 = .ok (.aload_n 0, 1) := dk_42 (dk_at dksX3_takesOldest_1 10 rfl rfl)
theorem dX3_takesOldest_34 : decode cX3_takesOldest 34 = .ok (.getfield 13, 3) := dk_180 0 13 (dk_at dksX3_takesOldest_1 11 rfl rfl)
theorem dX3_takesOldest_37 : decode cX3_takesOldest 37 = .ok (.iload_n 1, 1) := dk_27 (dk_at dksX3_takesOldest_1 14 rfl rfl)
theorem dX3_takesOldest_38 : decode cX3_takesOldest 38 = .ok (.bipush 39, 2) := dk_16 39 (dk_at dksX3_takesOldest_1 15 rfl rfl)
theorem dX3_takesOldest_40 : decode cX3_takesOldest 40 = .ok (.iload 4, 2) := dk_21 4 (dk_at dksX3_takesOldest_1 17 rfl rfl)
theorem dX3_takesOldest_42 : decode cX3_takesOldest 42 = .ok (.iadd, 1) := dk_96 (dk_at dksX3_takesOldest_1 19 rfl rfl)
theorem dX3_takesOldest_43 : decode cX3_takesOldest 43 = .ok (.invokestatic 63, 3) := dk_184 0 63 (dk_at dksX3_takesOldest_1 20 rfl rfl)
theorem dX3_takesOldest_46 : decode cX3_takesOldest 46 = .ok (.dup2, 1) := dk_92 (dk_at dksX3_takesOldest_1 23 rfl rfl)
theorem dX3_takesOldest_47 : decode cX3_takesOldest 47 = .ok (.iaload, 1) := dk_46 (dk_at dksX3_takesOldest_2 0 rfl rfl)
theorem dX3_takesOldest_48 : decode cX3_takesOldest 48 = .ok (.iload 5, 2) := dk_21 5 (dk_at dksX3_takesOldest_2 1 rfl rfl)
theorem dX3_takesOldest_50 : decode cX3_takesOldest 50 = .ok (.isub, 1) := dk_100 (dk_at dksX3_takesOldest_2 3 rfl rfl)
theorem dX3_takesOldest_51 : decode cX3_takesOldest 51 = .ok (.iastore, 1) := dk_79 (dk_at dksX3_takesOldest_2 4 rfl rfl)
theorem dX3_takesOldest_52 : decode cX3_takesOldest 52 = .ok (.iload_n 3, 1) := dk_29 (dk_at dksX3_takesOldest_2 5 rfl rfl)
theorem dX3_takesOldest_53 : decode cX3_takesOldest 53 = .ok (.iload 5, 2) := dk_21 5 (dk_at dksX3_takesOldest_2 6 rfl rfl)
theorem dX3_takesOldest_55 : decode cX3_takesOldest 55 = .ok (.isub, 1) := dk_100 (dk_at dksX3_takesOldest_2 8 rfl rfl)
theorem dX3_takesOldest_56 : decode cX3_takesOldest 56 = .ok (.istore_n 3, 1) := dk_62 (dk_at dksX3_takesOldest_2 9 rfl rfl)
theorem dX3_takesOldest_57 : decode cX3_takesOldest 57 = .ok (.iinc 4 (-1), 3) := dk_132 4 255 (dk_at dksX3_takesOldest_2 10 rfl rfl)
theorem dX3_takesOldest_60 : decode cX3_takesOldest 60 = .ok (.goto (-51), 3) := dk_167 255 205 (dk_at dksX3_takesOldest_2 13 rfl rfl)
theorem dX3_takesOldest_63 : decode cX3_takesOldest 63 = .ok (.iload_n 3, 1) := dk_29 (dk_at dksX3_takesOldest_2 16 rfl rfl)
theorem dX3_takesOldest_64 : decode cX3_takesOldest 64 = .ok (.ifCond .ne 7, 3) := dk_154 0 7 (dk_at dksX3_takesOldest_2 17 rfl rfl)
theorem dX3_takesOldest_67 : decode cX3_takesOldest 67 = .ok (.iconst 1, 1) := dk_4 (dk_at dksX3_takesOldest_2 20 rfl rfl)
theorem dX3_takesOldest_68 : decode cX3_takesOldest 68 = .ok (.goto 4, 3) := dk_167 0 4 (dk_at dksX3_takesOldest_2 21 rfl rfl)
theorem dX3_takesOldest_71 : decode cX3_takesOldest 71 = .ok (.iconst 0, 1) := dk_3 (dk_at dksX3_takesOldest_3 0 rfl rfl)
theorem dX3_takesOldest_72 : decode cX3_takesOldest 72 = .ok (.ireturn, 1) := dk_172 (dk_at dksX3_takesOldest_3 1 rfl rfl)
abbrev cX3_works : ByteArray := prog_39_method_101_code
def yX3_works : MethodName := ⟨RX3, "works", "(IIII)Z"⟩
def dkwX3_works_2 : List UInt8 := [161, 0, 7, 4, 167, 0, 4, 3, 54, 5, 132, 6, 1, 167, 255, 207, 42, 182, 1, 10, 21, 5, 172]
abbrev dktX3_works_2 : List UInt8 := dkwX3_works_2 ++ []
def dkwX3_works_1 : List UInt8 := [182, 1, 119, 54, 5, 42, 27, 182, 1, 49, 21, 5, 153, 0, 17, 42, 27, 182, 0, 104, 21, 4]
abbrev dktX3_works_1 : List UInt8 := dkwX3_works_1 ++ dktX3_works_2
def dkwX3_works_0 : List UInt8 := [4, 54, 5, 42, 182, 1, 0, 3, 54, 6, 21, 6, 29, 162, 0, 49, 21, 5, 153, 0, 44, 42, 27, 28]
abbrev dktX3_works_0 : List UInt8 := dkwX3_works_0 ++ dktX3_works_1
theorem dksX3_works_0 : cX3_works.data.toList.drop 0 = dktX3_works_0 := by decide +kernel
theorem dksX3_works_1 : cX3_works.data.toList.drop 24 = dktX3_works_1 := dk_seg dksX3_works_0 24 rfl rfl
theorem dksX3_works_2 : cX3_works.data.toList.drop 46 = dktX3_works_2 := dk_seg dksX3_works_1 22 rfl rfl
theorem dX3_works_0 : decode cX3_works 0 = .ok (.iconst 1, 1) := dk_4 (dk_at dksX3_works_0 0 rfl rfl)
theorem dX3_works_1 : decode cX3_works 1 = .ok (.istore 5, 2) := dk_54 5 (dk_at dksX3_works_0 1 rfl rfl)
theorem dX3_works_3 : decode cX3_works 3 = .ok (.aload_n 0, 1) := dk_42 (dk_at dksX3_works_0 3 rfl rfl)
theorem dX3_works_4 : decode cX3_works 4 = .ok (.invokevirtual 256, 3) := dk_182 1 0 (dk_at dksX3_works_0 4 rfl rfl)
theorem dX3_works_7 : decode cX3_works 7 = .ok (.iconst 0, 1) := dk_3 (dk_at dksX3_works_0 7 rfl rfl)
theorem dX3_works_8 : decode cX3_works 8 = .ok (.istore 6, 2) := dk_54 6 (dk_at dksX3_works_0 8 rfl rfl)
theorem dX3_works_10 : decode cX3_works 10 = .ok (.iload 6, 2) := dk_21 6 (dk_at dksX3_works_0 10 rfl rfl)
theorem dX3_works_12 : decode cX3_works 12 = .ok (.iload_n 3, 1) := dk_29 (dk_at dksX3_works_0 12 rfl rfl)
theorem dX3_works_13 : decode cX3_works 13 = .ok (.if_icmp .ge 49, 3) := dk_162 0 49 (dk_at dksX3_works_0 13 rfl rfl)
theorem dX3_works_16 : decode cX3_works 16 = .ok (.iload 5, 2) := dk_21 5 (dk_at dksX3_works_0 16 rfl rfl)
theorem dX3_works_18 : decode cX3_works 18 = .ok (.ifCond .eq 44, 3) := dk_153 0 44 (dk_at dksX3_works_0 18 rfl rfl)
theorem dX3_works_21 : decode cX3_works 21 = .ok (.aload_n 0, 1) := dk_42 (dk_at dksX3_works_0 21 rfl rfl)
theorem dX3_works_22 : decode cX3_works 22 = .ok (.iload_n 1, 1) := dk_27 (dk_at dksX3_works_0 22 rfl rfl)
theorem dX3_works_23 : decode cX3_works 23 = .ok (.iload_n 2, 1) := dk_28 (dk_at dksX3_works_0 23 rfl rfl)
theorem dX3_works_24 : decode cX3_works 24 = .ok (.invokevirtual 375, 3) := dk_182 1 119 (dk_at dksX3_works_1 0 rfl rfl)
theorem dX3_works_27 : decode cX3_works 27 = .ok (.istore 5, 2) := dk_54 5 (dk_at dksX3_works_1 3 rfl rfl)
theorem dX3_works_29 : decode cX3_works 29 = .ok (.aload_n 0, 1) := dk_42 (dk_at dksX3_works_1 5 rfl rfl)
theorem dX3_works_30 : decode cX3_works 30 = .ok (.iload_n 1, 1) := dk_27 (dk_at dksX3_works_1 6 rfl rfl)
theorem dX3_works_31 : decode cX3_works 31 = .ok (.invokevirtual 305, 3) := dk_182 1 49 (dk_at dksX3_works_1 7 rfl rfl)
theorem dX3_works_34 : decode cX3_works 34 = .ok (.iload 5, 2) := dk_21 5 (dk_at dksX3_works_1 10 rfl rfl)
theorem dX3_works_36 : decode cX3_works 36 = .ok (.ifCond .eq 17, 3) := dk_153 0 17 (dk_at dksX3_works_1 12 rfl rfl)
theorem dX3_works_39 : decode cX3_works 39 = .ok (.aload_n 0, 1) := dk_42 (dk_at dksX3_works_1 15 rfl rfl)
theorem dX3_works_40 : decode cX3_works 40 = .ok (.iload_n 1, 1) := dk_27 (dk_at dksX3_works_1 16 rfl rfl)
theorem dX3_works_41 : decode cX3_works 41 = .ok (.invokevirtual 104, 3) := dk_182 0 104 (dk_at dksX3_works_1 17 rfl rfl)
theorem dX3_works_44 : decode cX3_works 44 = .ok (.iload 4, 2) := dk_21 4 (dk_at dksX3_works_1 20 rfl rfl)
theorem dX3_works_46 : decode cX3_works 46 = .ok (.if_icmp .lt 7, 3) := dk_161 0 7 (dk_at dksX3_works_2 0 rfl rfl)
theorem dX3_works_49 : decode cX3_works 49 = .ok (.iconst 1, 1) := dk_4 (dk_at dksX3_works_2 3 rfl rfl)
theorem dX3_works_50 : decode cX3_works 50 = .ok (.goto 4, 3) := dk_167 0 4 (dk_at dksX3_works_2 4 rfl rfl)
theorem dX3_works_53 : decode cX3_works 53 = .ok (.iconst 0, 1) := dk_3 (dk_at dksX3_works_2 7 rfl rfl)
theorem dX3_works_54 : decode cX3_works 54 = .ok (.istore 5, 2) := dk_54 5 (dk_at dksX3_works_2 8 rfl rfl)
theorem dX3_works_56 : decode cX3_works 56 = .ok (.iinc 6 1, 3) := dk_132 6 1 (dk_at dksX3_works_2 10 rfl rfl)
theorem dX3_works_59 : decode cX3_works 59 = .ok (.goto (-49), 3) := dk_167 255 207 (dk_at dksX3_works_2 13 rfl rfl)
theorem dX3_works_62 : decode cX3_works 62 = .ok (.aload_n 0, 1) := dk_42 (dk_at dksX3_works_2 16 rfl rfl)
theorem dX3_works_63 : decode cX3_works 63 = .ok (.invokevirtual 266, 3) := dk_182 1 10 (dk_at dksX3_works_2 17 rfl rfl)
theorem dX3_works_66 : decode cX3_works 66 = .ok (.iload 5, 2) := dk_21 5 (dk_at dksX3_works_2 20 rfl rfl)
theorem dX3_works_68 : decode cX3_works 68 = .ok (.ireturn, 1) := dk_172 (dk_at dksX3_works_2 22 rfl rfl)
abbrev cX3_steadyTake : ByteArray := prog_39_method_102_code
def yX3_steadyTake : MethodName := ⟨RX3, "steadyTake", "(III)I"⟩
def dkwX3_steadyTake_4 : List UInt8 := [182, 1, 124, 153, 0, 10, 21, 6, 54, 4, 167, 0, 7, 21, 6, 54, 5, 167, 255, 215, 21, 4, 172]
abbrev dktX3_steadyTake_4 : List UInt8 := dkwX3_steadyTake_4 ++ []
def dkwX3_steadyTake_3 : List UInt8 := [21, 4, 4, 96, 164, 0, 38, 21, 4, 21, 5, 96, 5, 108, 54, 6, 42, 27, 21, 6, 28, 29]
abbrev dktX3_steadyTake_3 : List UInt8 := dkwX3_steadyTake_3 ++ dktX3_steadyTake_4
def dkwX3_steadyTake_2 : List UInt8 := [28, 29, 182, 1, 124, 154, 0, 5, 2, 172, 3, 54, 4, 42, 27, 182, 0, 107, 4, 96, 54, 5, 21, 5]
abbrev dktX3_steadyTake_2 : List UInt8 := dkwX3_steadyTake_2 ++ dktX3_steadyTake_3
def dkwX3_steadyTake_1 : List UInt8 := [153, 0, 7, 29, 156, 0, 7, 4, 167, 0, 4, 3, 5, 182, 1, 6, 153, 0, 5, 3, 172, 42, 27, 3]
abbrev dktX3_steadyTake_1 : List UInt8 := dkwX3_steadyTake_1 ++ dktX3_steadyTake_2
def dkwX3_steadyTake_0 : List UInt8 := [42, 3, 181, 0, 3, 42, 27, 182, 1, 55, 154, 0, 32, 42, 28, 133, 10, 20, 1, 122, 184, 0, 167]
abbrev dktX3_steadyTake_0 : List UInt8 := dkwX3_steadyTake_0 ++ dktX3_steadyTake_1
theorem dksX3_steadyTake_0 : cX3_steadyTake.data.toList.drop 0 = dktX3_steadyTake_0 := by decide +kernel
theorem dksX3_steadyTake_1 : cX3_steadyTake.data.toList.drop 23 = dktX3_steadyTake_1 := dk_seg dksX3_steadyTake_0 23 rfl rfl
theorem dksX3_steadyTake_2 : cX3_steadyTake.data.toList.drop 47 = dktX3_steadyTake_2 := dk_seg dksX3_steadyTake_1 24 rfl rfl
theorem dksX3_steadyTake_3 : cX3_steadyTake.data.toList.drop 71 = dktX3_steadyTake_3 := dk_seg dksX3_steadyTake_2 24 rfl rfl
theorem dksX3_steadyTake_4 : cX3_steadyTake.data.toList.drop 93 = dktX3_steadyTake_4 := dk_seg dksX3_steadyTake_3 22 rfl rfl
theorem dX3_steadyTake_0 : decode cX3_steadyTake 0 = .ok (.aload_n 0, 1) := dk_42 (dk_at dksX3_steadyTake_0 0 rfl rfl)
theorem dX3_steadyTake_1 : decode cX3_steadyTake 1 = .ok (.iconst 0, 1) := dk_3 (dk_at dksX3_steadyTake_0 1 rfl rfl)
theorem dX3_steadyTake_2 : decode cX3_steadyTake 2 = .ok (.putfield 3, 3) := dk_181 0 3 (dk_at dksX3_steadyTake_0 2 rfl rfl)
theorem dX3_steadyTake_5 : decode cX3_steadyTake 5 = .ok (.aload_n 0, 1) := dk_42 (dk_at dksX3_steadyTake_0 5 rfl rfl)
theorem dX3_steadyTake_6 : decode cX3_steadyTake 6 = .ok (.iload_n 1, 1) := dk_27 (dk_at dksX3_steadyTake_0 6 rfl rfl)
theorem dX3_steadyTake_7 : decode cX3_steadyTake 7 = .ok (.invokevirtual 311, 3) := dk_182 1 55 (dk_at dksX3_steadyTake_0 7 rfl rfl)
theorem dX3_steadyTake_10 : decode cX3_steadyTake 10 = .ok (.ifCond .ne 32, 3) := dk_154 0 32 (dk_at dksX3_steadyTake_0 10 rfl rfl)
theorem dX3_steadyTake_13 : decode cX3_steadyTake 13 = .ok (.aload_n 0, 1) := dk_42 (dk_at dksX3_steadyTake_0 13 rfl rfl)
theorem dX3_steadyTake_14 : decode cX3_steadyTake 14 = .ok (.iload_n 2, 1) := dk_28 (dk_at dksX3_steadyTake_0 14 rfl rfl)
theorem dX3_steadyTake_15 : decode cX3_steadyTake 15 = .ok (.i2l, 1) := dk_133 (dk_at dksX3_steadyTake_0 15 rfl rfl)
theorem dX3_steadyTake_16 : decode cX3_steadyTake 16 = .ok (.lconst 1, 1) := dk_10 (dk_at dksX3_steadyTake_0 16 rfl rfl)
theorem dX3_steadyTake_17 : decode cX3_steadyTake 17 = .ok (.ldc2_w 378, 3) := dk_20 1 122 (dk_at dksX3_steadyTake_0 17 rfl rfl)
theorem dX3_steadyTake_20 : decode cX3_steadyTake 20 = .ok (.invokestatic 167, 3) := dk_184 0 167 (dk_at dksX3_steadyTake_0 20 rfl rfl)
theorem dX3_steadyTake_23 : decode cX3_steadyTake 23 = .ok (.ifCond .eq 7, 3) := dk_153 0 7 (dk_at dksX3_steadyTake_1 0 rfl rfl)
theorem dX3_steadyTake_26 : decode cX3_steadyTake 26 = .ok (.iload_n 3, 1) := dk_29 (dk_at dksX3_steadyTake_1 3 rfl rfl)
theorem dX3_steadyTake_27 : decode cX3_steadyTake 27 = .ok (.ifCond .ge 7, 3) := dk_156 0 7 (dk_at dksX3_steadyTake_1 4 rfl rfl)
theorem dX3_steadyTake_30 : decode cX3_steadyTake 30 = .ok (.iconst 1, 1) := dk_4 (dk_at dksX3_steadyTake_1 7 rfl rfl)
theorem dX3_steadyTake_31 : decode cX3_steadyTake 31 = .ok (.goto 4, 3) := dk_167 0 4 (dk_at dksX3_steadyTake_1 8 rfl rfl)
theorem dX3_steadyTake_34 : decode cX3_steadyTake 34 = .ok (.iconst 0, 1) := dk_3 (dk_at dksX3_steadyTake_1 11 rfl rfl)
theorem dX3_steadyTake_35 : decode cX3_steadyTake 35 = .ok (.iconst 2, 1) := dk_5 (dk_at dksX3_steadyTake_1 12 rfl rfl)
theorem dX3_steadyTake_36 : decode cX3_steadyTake 36 = .ok (.invokevirtual 262, 3) := dk_182 1 6 (dk_at dksX3_steadyTake_1 13 rfl rfl)
theorem dX3_steadyTake_39 : decode cX3_steadyTake 39 = .ok (.ifCond .eq 5, 3) := dk_153 0 5 (dk_at dksX3_steadyTake_1 16 rfl rfl)
theorem dX3_steadyTake_42 : decode cX3_steadyTake 42 = .ok (.iconst 0, 1) := dk_3 (dk_at dksX3_steadyTake_1 19 rfl rfl)
theorem dX3_steadyTake_43 : decode cX3_steadyTake 43 = .ok (.ireturn, 1) := dk_172 (dk_at dksX3_steadyTake_1 20 rfl rfl)
theorem dX3_steadyTake_44 : decode cX3_steadyTake 44 = .ok (.aload_n 0, 1) := dk_42 (dk_at dksX3_steadyTake_1 21 rfl rfl)
theorem dX3_steadyTake_45 : decode cX3_steadyTake 45 = .ok (.iload_n 1, 1) := dk_27 (dk_at dksX3_steadyTake_1 22 rfl rfl)
theorem dX3_steadyTake_46 : decode cX3_steadyTake 46 = .ok (.iconst 0, 1) := dk_3 (dk_at dksX3_steadyTake_1 23 rfl rfl)
theorem dX3_steadyTake_47 : decode cX3_steadyTake 47 = .ok (.iload_n 2, 1) := dk_28 (dk_at dksX3_steadyTake_2 0 rfl rfl)
theorem dX3_steadyTake_48 : decode cX3_steadyTake 48 = .ok (.iload_n 3, 1) := dk_29 (dk_at dksX3_steadyTake_2 1 rfl rfl)
theorem dX3_steadyTake_49 : decode cX3_steadyTake 49 = .ok (.invokevirtual 380, 3) := dk_182 1 124 (dk_at dksX3_steadyTake_2 2 rfl rfl)
theorem dX3_steadyTake_52 : decode cX3_steadyTake 52 = .ok (.ifCond .ne 5, 3) := dk_154 0 5 (dk_at dksX3_steadyTake_2 5 rfl rfl)
theorem dX3_steadyTake_55 : decode cX3_steadyTake 55 = .ok (.iconst (-1), 1) := dk_2 (dk_at dksX3_steadyTake_2 8 rfl rfl)
theorem dX3_steadyTake_56 : decode cX3_steadyTake 56 = .ok (.ireturn, 1) := dk_172 (dk_at dksX3_steadyTake_2 9 rfl rfl)
theorem dX3_steadyTake_57 : decode cX3_steadyTake 57 = .ok (.iconst 0, 1) := dk_3 (dk_at dksX3_steadyTake_2 10 rfl rfl)
theorem dX3_steadyTake_58 : decode cX3_steadyTake 58 = .ok (.istore 4, 2) := dk_54 4 (dk_at dksX3_steadyTake_2 11 rfl rfl)
theorem dX3_steadyTake_60 : decode cX3_steadyTake 60 = .ok (.aload_n 0, 1) := dk_42 (dk_at dksX3_steadyTake_2 13 rfl rfl)
theorem dX3_steadyTake_61 : decode cX3_steadyTake 61 = .ok (.iload_n 1, 1) := dk_27 (dk_at dksX3_steadyTake_2 14 rfl rfl)
theorem dX3_steadyTake_62 : decode cX3_steadyTake 62 = .ok (.invokevirtual 107, 3) := dk_182 0 107 (dk_at dksX3_steadyTake_2 15 rfl rfl)
theorem dX3_steadyTake_65 : decode cX3_steadyTake 65 = .ok (.iconst 1, 1) := dk_4 (dk_at dksX3_steadyTake_2 18 rfl rfl)
theorem dX3_steadyTake_66 : decode cX3_steadyTake 66 = .ok (.iadd, 1) := dk_96 (dk_at dksX3_steadyTake_2 19 rfl rfl)
theorem dX3_steadyTake_67 : decode cX3_steadyTake 67 = .ok (.istore 5, 2) := dk_54 5 (dk_at dksX3_steadyTake_2 20 rfl rfl)
theorem dX3_steadyTake_69 : decode cX3_steadyTake 69 = .ok (.iload 5, 2) := dk_21 5 (dk_at dksX3_steadyTake_2 22 rfl rfl)
theorem dX3_steadyTake_71 : decode cX3_steadyTake 71 = .ok (.iload 4, 2) := dk_21 4 (dk_at dksX3_steadyTake_3 0 rfl rfl)
theorem dX3_steadyTake_73 : decode cX3_steadyTake 73 = .ok (.iconst 1, 1) := dk_4 (dk_at dksX3_steadyTake_3 2 rfl rfl)
theorem dX3_steadyTake_74 : decode cX3_steadyTake 74 = .ok (.iadd, 1) := dk_96 (dk_at dksX3_steadyTake_3 3 rfl rfl)
theorem dX3_steadyTake_75 : decode cX3_steadyTake 75 = .ok (.if_icmp .le 38, 3) := dk_164 0 38 (dk_at dksX3_steadyTake_3 4 rfl rfl)
theorem dX3_steadyTake_78 : decode cX3_steadyTake 78 = .ok (.iload 4, 2) := dk_21 4 (dk_at dksX3_steadyTake_3 7 rfl rfl)
theorem dX3_steadyTake_80 : decode cX3_steadyTake 80 = .ok (.iload 5, 2) := dk_21 5 (dk_at dksX3_steadyTake_3 9 rfl rfl)
theorem dX3_steadyTake_82 : decode cX3_steadyTake 82 = .ok (.iadd, 1) := dk_96 (dk_at dksX3_steadyTake_3 11 rfl rfl)
theorem dX3_steadyTake_83 : decode cX3_steadyTake 83 = .ok (.iconst 2, 1) := dk_5 (dk_at dksX3_steadyTake_3 12 rfl rfl)
theorem dX3_steadyTake_84 : decode cX3_steadyTake 84 = .ok (.idiv, 1) := dk_108 (dk_at dksX3_steadyTake_3 13 rfl rfl)
theorem dX3_steadyTake_85 : decode cX3_steadyTake 85 = .ok (.istore 6, 2) := dk_54 6 (dk_at dksX3_steadyTake_3 14 rfl rfl)
theorem dX3_steadyTake_87 : decode cX3_steadyTake 87 = .ok (.aload_n 0, 1) := dk_42 (dk_at dksX3_steadyTake_3 16 rfl rfl)
theorem dX3_steadyTake_88 : decode cX3_steadyTake 88 = .ok (.iload_n 1, 1) := dk_27 (dk_at dksX3_steadyTake_3 17 rfl rfl)
theorem dX3_steadyTake_89 : decode cX3_steadyTake 89 = .ok (.iload 6, 2) := dk_21 6 (dk_at dksX3_steadyTake_3 18 rfl rfl)
theorem dX3_steadyTake_91 : decode cX3_steadyTake 91 = .ok (.iload_n 2, 1) := dk_28 (dk_at dksX3_steadyTake_3 20 rfl rfl)
theorem dX3_steadyTake_92 : decode cX3_steadyTake 92 = .ok (.iload_n 3, 1) := dk_29 (dk_at dksX3_steadyTake_3 21 rfl rfl)
theorem dX3_steadyTake_93 : decode cX3_steadyTake 93 = .ok (.invokevirtual 380, 3) := dk_182 1 124 (dk_at dksX3_steadyTake_4 0 rfl rfl)
theorem dX3_steadyTake_96 : decode cX3_steadyTake 96 = .ok (.ifCond .eq 10, 3) := dk_153 0 10 (dk_at dksX3_steadyTake_4 3 rfl rfl)
theorem dX3_steadyTake_99 : decode cX3_steadyTake 99 = .ok (.iload 6, 2) := dk_21 6 (dk_at dksX3_steadyTake_4 6 rfl rfl)
theorem dX3_steadyTake_101 : decode cX3_steadyTake 101 = .ok (.istore 4, 2) := dk_54 4 (dk_at dksX3_steadyTake_4 8 rfl rfl)
theorem dX3_steadyTake_103 : decode cX3_steadyTake 103 = .ok (.goto 7, 3) := dk_167 0 7 (dk_at dksX3_steadyTake_4 10 rfl rfl)
theorem dX3_steadyTake_106 : decode cX3_steadyTake 106 = .ok (.iload 6, 2) := dk_21 6 (dk_at dksX3_steadyTake_4 13 rfl rfl)
theorem dX3_steadyTake_108 : decode cX3_steadyTake 108 = .ok (.istore 5, 2) := dk_54 5 (dk_at dksX3_steadyTake_4 15 rfl rfl)
theorem dX3_steadyTake_110 : decode cX3_steadyTake 110 = .ok (.goto (-41), 3) := dk_167 255 215 (dk_at dksX3_steadyTake_4 17 rfl rfl)
theorem dX3_steadyTake_113 : decode cX3_steadyTake 113 = .ok (.iload 4, 2) := dk_21 4 (dk_at dksX3_steadyTake_4 20 rfl rfl)
theorem dX3_steadyTake_115 : decode cX3_steadyTake 115 = .ok (.ireturn, 1) := dk_172 (dk_at dksX3_steadyTake_4 22 rfl rfl)
abbrev cX3_adds : ByteArray := prog_39_method_52_code
def yX3_adds : MethodName := ⟨RX3, "adds", "(III)V"⟩
def dkwX3_adds_1 : List UInt8 := [184, 0, 63, 92, 46, 29, 96, 79, 177]
abbrev dktX3_adds_1 : List UInt8 := dkwX3_adds_1 ++ []
def dkwX3_adds_0 : List UInt8 := [42, 180, 0, 13, 27, 16, 39, 28, 96, 184, 0, 63, 92, 46, 29, 96, 79, 42, 180, 0, 13, 27, 16, 11]
abbrev dktX3_adds_0 : List UInt8 := dkwX3_adds_0 ++ dktX3_adds_1
theorem dksX3_adds_0 : cX3_adds.data.toList.drop 0 = dktX3_adds_0 := by decide +kernel
theorem dksX3_adds_1 : cX3_adds.data.toList.drop 24 = dktX3_adds_1 := dk_seg dksX3_adds_0 24 rfl rfl
theorem dX3_adds_0 : decode cX3_adds 0 = .ok (.aload_n 0, 1) := dk_42 (dk_at dksX3_adds_0 0 rfl rfl)
theorem dX3_adds_1 : decode cX3_adds 1 = .ok (.getfield 13, 3) := dk_180 0 13 (dk_at dksX3_adds_0 1 rfl rfl)
theorem dX3_adds_4 : decode cX3_adds 4 = .ok (.iload_n 1, 1) := dk_27 (dk_at dksX3_adds_0 4 rfl rfl)
theorem dX3_adds_5 : decode cX3_adds 5 = .ok (.bipush 39, 2) := dk_16 39 (dk_at dksX3_adds_0 5 rfl rfl)
theorem dX3_adds_7 : decode cX3_adds 7 = .ok (.iload_n 2, 1) := dk_28 (dk_at dksX3_adds_0 7 rfl rfl)
theorem dX3_adds_8 : decode cX3_adds 8 = .ok (.iadd, 1) := dk_96 (dk_at dksX3_adds_0 8 rfl rfl)
theorem dX3_adds_9 : decode cX3_adds 9 = .ok (.invokestatic 63, 3) := dk_184 0 63 (dk_at dksX3_adds_0 9 rfl rfl)
theorem dX3_adds_12 : decode cX3_adds 12 = .ok (.dup2, 1) := dk_92 (dk_at dksX3_adds_0 12 rfl rfl)
theorem dX3_adds_13 : decode cX3_adds 13 = .ok (.iaload, 1) := dk_46 (dk_at dksX3_adds_0 13 rfl rfl)
theorem dX3_adds_14 : decode cX3_adds 14 = .ok (.iload_n 3, 1) := dk_29 (dk_at dksX3_adds_0 14 rfl rfl)
theorem dX3_adds_15 : decode cX3_adds 15 = .ok (.iadd, 1) := dk_96 (dk_at dksX3_adds_0 15 rfl rfl)
theorem dX3_adds_16 : decode cX3_adds 16 = .ok (.iastore, 1) := dk_79 (dk_at dksX3_adds_0 16 rfl rfl)
theorem dX3_adds_17 : decode cX3_adds 17 = .ok (.aload_n 0, 1) := dk_42 (dk_at dksX3_adds_0 17 rfl rfl)
theorem dX3_adds_18 : decode cX3_adds 18 = .ok (.getfield 13, 3) := dk_180 0 13 (dk_at dksX3_adds_0 18 rfl rfl)
theorem dX3_adds_21 : decode cX3_adds 21 = .ok (.iload_n 1, 1) := dk_27 (dk_at dksX3_adds_0 21 rfl rfl)
theorem dX3_adds_22 : decode cX3_adds 22 = .ok (.bipush 11, 2) := dk_16 11 (dk_at dksX3_adds_0 22 rfl rfl)
theorem dX3_adds_24 : decode cX3_adds 24 = .ok (.invokestatic 63, 3) := dk_184 0 63 (dk_at dksX3_adds_1 0 rfl rfl)
theorem dX3_adds_27 : decode cX3_adds 27 = .ok (.dup2, 1) := dk_92 (dk_at dksX3_adds_1 3 rfl rfl)
theorem dX3_adds_28 : decode cX3_adds 28 = .ok (.iaload, 1) := dk_46 (dk_at dksX3_adds_1 4 rfl rfl)
theorem dX3_adds_29 : decode cX3_adds 29 = .ok (.iload_n 3, 1) := dk_29 (dk_at dksX3_adds_1 5 rfl rfl)
theorem dX3_adds_30 : decode cX3_adds 30 = .ok (.iadd, 1) := dk_96 (dk_at dksX3_adds_1 6 rfl rfl)
theorem dX3_adds_31 : decode cX3_adds 31 = .ok (.iastore, 1) := dk_79 (dk_at dksX3_adds_1 7 rfl rfl)
theorem dX3_adds_32 : decode cX3_adds 32 = .ok (.return_, 1) := dk_177 (dk_at dksX3_adds_1 8 rfl rfl)
abbrev cX3_takesOut : ByteArray := prog_39_method_53_code
def yX3_takesOut : MethodName := ⟨RX3, "takesOut", "(III)V"⟩
def dkwX3_takesOut_1 : List UInt8 := [42, 180, 0, 13, 27, 16, 10, 184, 0, 63, 92, 46, 29, 96, 79, 42, 27, 21, 4, 182, 1, 16, 177]
abbrev dktX3_takesOut_1 : List UInt8 := dkwX3_takesOut_1 ++ []
def dkwX3_takesOut_0 : List UInt8 := [42, 27, 182, 0, 104, 54, 4, 42, 180, 0, 13, 27, 16, 39, 28, 96, 184, 0, 63, 92, 46, 29, 100, 79]
abbrev dktX3_takesOut_0 : List UInt8 := dkwX3_takesOut_0 ++ dktX3_takesOut_1
theorem dksX3_takesOut_0 : cX3_takesOut.data.toList.drop 0 = dktX3_takesOut_0 := by decide +kernel
theorem dksX3_takesOut_1 : cX3_takesOut.data.toList.drop 24 = dktX3_takesOut_1 := dk_seg dksX3_takesOut_0 24 rfl rfl
theorem dX3_takesOut_0 : decode cX3_takesOut 0 = .ok (.aload_n 0, 1) := dk_42 (dk_at dksX3_takesOut_0 0 rfl rfl)
theorem dX3_takesOut_1 : decode cX3_takesOut 1 = .ok (.iload_n 1, 1) := dk_27 (dk_at dksX3_takesOut_0 1 rfl rfl)
theorem dX3_takesOut_2 : decode cX3_takesOut 2 = .ok (.invokevirtual 104, 3) := dk_182 0 104 (dk_at dksX3_takesOut_0 2 rfl rfl)
theorem dX3_takesOut_5 : decode cX3_takesOut 5 = .ok (.istore 4, 2) := dk_54 4 (dk_at dksX3_takesOut_0 5 rfl rfl)
theorem dX3_takesOut_7 : decode cX3_takesOut 7 = .ok (.aload_n 0, 1) := dk_42 (dk_at dksX3_takesOut_0 7 rfl rfl)
theorem dX3_takesOut_8 : decode cX3_takesOut 8 = .ok (.getfield 13, 3) := dk_180 0 13 (dk_at dksX3_takesOut_0 8 rfl rfl)
theorem dX3_takesOut_11 : decode cX3_takesOut 11 = .ok (.iload_n 1, 1) := dk_27 (dk_at dksX3_takesOut_0 11 rfl rfl)
theorem dX3_takesOut_12 : decode cX3_takesOut 12 = .ok (.bipush 39, 2) := dk_16 39 (dk_at dksX3_takesOut_0 12 rfl rfl)
theorem dX3_takesOut_14 : decode cX3_takesOut 14 = .ok (.iload_n 2, 1) := dk_28 (dk_at dksX3_takesOut_0 14 rfl rfl)
theorem dX3_takesOut_15 : decode cX3_takesOut 15 = .ok (.iadd, 1) := dk_96 (dk_at dksX3_takesOut_0 15 rfl rfl)
theorem dX3_takesOut_16 : decode cX3_takesOut 16 = .ok (.invokestatic 63, 3) := dk_184 0 63 (dk_at dksX3_takesOut_0 16 rfl rfl)
theorem dX3_takesOut_19 : decode cX3_takesOut 19 = .ok (.dup2, 1) := dk_92 (dk_at dksX3_takesOut_0 19 rfl rfl)
theorem dX3_takesOut_20 : decode cX3_takesOut 20 = .ok (.iaload, 1) := dk_46 (dk_at dksX3_takesOut_0 20 rfl rfl)
theorem dX3_takesOut_21 : decode cX3_takesOut 21 = .ok (.iload_n 3, 1) := dk_29 (dk_at dksX3_takesOut_0 21 rfl rfl)
theorem dX3_takesOut_22 : decode cX3_takesOut 22 = .ok (.isub, 1) := dk_100 (dk_at dksX3_takesOut_0 22 rfl rfl)
theorem dX3_takesOut_23 : decode cX3_takesOut 23 = .ok (.iastore, 1) := dk_79 (dk_at dksX3_takesOut_0 23 rfl rfl)
theorem dX3_takesOut_24 : decode cX3_takesOut 24 = .ok (.aload_n 0, 1) := dk_42 (dk_at dksX3_takesOut_1 0 rfl rfl)
theorem dX3_takesOut_25 : decode cX3_takesOut 25 = .ok (.getfield 13, 3) := dk_180 0 13 (dk_at dksX3_takesOut_1 1 rfl rfl)
theorem dX3_takesOut_28 : decode cX3_takesOut 28 = .ok (.iload_n 1, 1) := dk_27 (dk_at dksX3_takesOut_1 4 rfl rfl)
theorem dX3_takesOut_29 : decode cX3_takesOut 29 = .ok (.bipush 10, 2) := dk_16 10 (dk_at dksX3_takesOut_1 5 rfl rfl)
theorem dX3_takesOut_31 : decode cX3_takesOut 31 = .ok (.invokestatic 63, 3) := dk_184 0 63 (dk_at dksX3_takesOut_1 7 rfl rfl)
theorem dX3_takesOut_34 : decode cX3_takesOut 34 = .ok (.dup2, 1) := dk_92 (dk_at dksX3_takesOut_1 10 rfl rfl)
theorem dX3_takesOut_35 : decode cX3_takesOut 35 = .ok (.iaload, 1) := dk_46 (dk_at dksX3_takesOut_1 11 rfl rfl)
theorem dX3_takesOut_36 : decode cX3_takesOut 36 = .ok (.iload_n 3, 1) := dk_29 (dk_at dksX3_takesOut_1 12 rfl rfl)
theorem dX3_takesOut_37 : decode cX3_takesOut 37 = .ok (.iadd, 1) := dk_96 (dk_at dksX3_takesOut_1 13 rfl rfl)
theorem dX3_takesOut_38 : decode cX3_takesOut 38 = .ok (.iastore, 1) := dk_79 (dk_at dksX3_takesOut_1 14 rfl rfl)
theorem dX3_takesOut_39 : decode cX3_takesOut 39 = .ok (.aload_n 0, 1) := dk_42 (dk_at dksX3_takesOut_1 15 rfl rfl)
theorem dX3_takesOut_40 : decode cX3_takesOut 40 = .ok (.iload_n 1, 1) := dk_27 (dk_at dksX3_takesOut_1 16 rfl rfl)
theorem dX3_takesOut_41 : decode cX3_takesOut 41 = .ok (.iload 4, 2) := dk_21 4 (dk_at dksX3_takesOut_1 17 rfl rfl)
theorem dX3_takesOut_43 : decode cX3_takesOut 43 = .ok (.invokevirtual 272, 3) := dk_182 1 16 (dk_at dksX3_takesOut_1 19 rfl rfl)
theorem dX3_takesOut_46 : decode cX3_takesOut 46 = .ok (.return_, 1) := dk_177 (dk_at dksX3_takesOut_1 22 rfl rfl)
abbrev cX3_sickens : ByteArray := prog_39_method_54_code
def yX3_sickens : MethodName := ⟨RX3, "sickens", "(IIII)I"⟩
def dkwX3_sickens_4 : List UInt8 := [172]
abbrev dktX3_sickens_4 : List UInt8 := dkwX3_sickens_4 ++ []
def dkwX3_sickens_3 : List UInt8 := [180, 0, 13, 27, 16, 9, 184, 0, 63, 92, 46, 21, 6, 96, 79, 42, 27, 21, 5, 182, 1, 16, 21, 6]
abbrev dktX3_sickens_3 : List UInt8 := dkwX3_sickens_3 ++ dktX3_sickens_4
def dkwX3_sickens_2 : List UInt8 := [96, 184, 0, 63, 92, 46, 21, 8, 100, 79, 21, 6, 21, 8, 96, 54, 6, 132, 7, 1, 167, 255, 202, 42]
abbrev dktX3_sickens_2 : List UInt8 := dkwX3_sickens_2 ++ dktX3_sickens_3
def dkwX3_sickens_1 : List UInt8 := [182, 0, 74, 133, 21, 4, 133, 105, 20, 1, 20, 109, 136, 54, 8, 42, 180, 0, 13, 27, 16, 39, 21, 7]
abbrev dktX3_sickens_1 : List UInt8 := dkwX3_sickens_1 ++ dktX3_sickens_2
def dkwX3_sickens_0 : List UInt8 := [42, 27, 182, 0, 104, 54, 5, 3, 54, 6, 28, 54, 7, 21, 7, 29, 163, 0, 54, 42, 27, 21, 7]
abbrev dktX3_sickens_0 : List UInt8 := dkwX3_sickens_0 ++ dktX3_sickens_1
theorem dksX3_sickens_0 : cX3_sickens.data.toList.drop 0 = dktX3_sickens_0 := by decide +kernel
theorem dksX3_sickens_1 : cX3_sickens.data.toList.drop 23 = dktX3_sickens_1 := dk_seg dksX3_sickens_0 23 rfl rfl
theorem dksX3_sickens_2 : cX3_sickens.data.toList.drop 47 = dktX3_sickens_2 := dk_seg dksX3_sickens_1 24 rfl rfl
theorem dksX3_sickens_3 : cX3_sickens.data.toList.drop 71 = dktX3_sickens_3 := dk_seg dksX3_sickens_2 24 rfl rfl
theorem dksX3_sickens_4 : cX3_sickens.data.toList.drop 95 = dktX3_sickens_4 := dk_seg dksX3_sickens_3 24 rfl rfl
theorem dX3_sickens_0 : decode cX3_sickens 0 = .ok (.aload_n 0, 1) := dk_42 (dk_at dksX3_sickens_0 0 rfl rfl)
theorem dX3_sickens_1 : decode cX3_sickens 1 = .ok (.iload_n 1, 1) := dk_27 (dk_at dksX3_sickens_0 1 rfl rfl)
theorem dX3_sickens_2 : decode cX3_sickens 2 = .ok (.invokevirtual 104, 3) := dk_182 0 104 (dk_at dksX3_sickens_0 2 rfl rfl)
theorem dX3_sickens_5 : decode cX3_sickens 5 = .ok (.istore 5, 2) := dk_54 5 (dk_at dksX3_sickens_0 5 rfl rfl)
theorem dX3_sickens_7 : decode cX3_sickens 7 = .ok (.iconst 0, 1) := dk_3 (dk_at dksX3_sickens_0 7 rfl rfl)
theorem dX3_sickens_8 : decode cX3_sickens 8 = .ok (.istore 6, 2) := dk_54 6 (dk_at dksX3_sickens_0 8 rfl rfl)
theorem dX3_sickens_10 : decode cX3_sickens 10 = .ok (.iload_n 2, 1) := dk_28 (dk_at dksX3_sickens_0 10 rfl rfl)
theorem dX3_sickens_11 : decode cX3_sickens 11 = .ok (.istore 7, 2) := dk_54 7 (dk_at dksX3_sickens_0 11 rfl rfl)
theorem dX3_sickens_13 : decode cX3_sickens 13 = .ok (.iload 7, 2) := dk_21 7 (dk_at dksX3_sickens_0 13 rfl rfl)
theorem dX3_sickens_15 : decode cX3_sickens 15 = .ok (.iload_n 3, 1) := dk_29 (dk_at dksX3_sickens_0 15 rfl rfl)
theorem dX3_sickens_16 : decode cX3_sickens 16 = .ok (.if_icmp .gt 54, 3) := dk_163 0 54 (dk_at dksX3_sickens_0 16 rfl rfl)
theorem dX3_sickens_19 : decode cX3_sickens 19 = .ok (.aload_n 0, 1) := dk_42 (dk_at dksX3_sickens_0 19 rfl rfl)
theorem dX3_sickens_20 : decode cX3_sickens 20 = .ok (.iload_n 1, 1) := dk_27 (dk_at dksX3_sickens_0 20 rfl rfl)
theorem dX3_sickens_21 : decode cX3_sickens 21 = .ok (.iload 7, 2) := dk_21 7 (dk_at dksX3_sickens_0 21 rfl rfl)
theorem dX3_sickens_23 : decode cX3_sickens 23 = .ok (.invokevirtual 74, 3) := dk_182 0 74 (dk_at dksX3_sickens_1 0 rfl rfl)
theorem dX3_sickens_26 : decode cX3_sickens 26 = .ok (.i2l, 1) := dk_133 (dk_at dksX3_sickens_1 3 rfl rfl)
theorem dX3_sickens_27 : decode cX3_sickens 27 = .ok (.iload 4, 2) := dk_21 4 (dk_at dksX3_sickens_1 4 rfl rfl)
theorem dX3_sickens_29 : decode cX3_sickens 29 = .ok (.i2l, 1) := dk_133 (dk_at dksX3_sickens_1 6 rfl rfl)
theorem dX3_sickens_30 : decode cX3_sickens 30 = .ok (.lmul, 1) := dk_105 (dk_at dksX3_sickens_1 7 rfl rfl)
theorem dX3_sickens_31 : decode cX3_sickens 31 = .ok (.ldc2_w 276, 3) := dk_20 1 20 (dk_at dksX3_sickens_1 8 rfl rfl)
theorem dX3_sickens_34 : decode cX3_sickens 34 = .ok (.ldiv, 1) := dk_109 (dk_at dksX3_sickens_1 11 rfl rfl)
theorem dX3_sickens_35 : decode cX3_sickens 35 = .ok (.l2i, 1) := dk_136 (dk_at dksX3_sickens_1 12 rfl rfl)
theorem dX3_sickens_36 : decode cX3_sickens 36 = .ok (.istore 8, 2) := dk_54 8 (dk_at dksX3_sickens_1 13 rfl rfl)
theorem dX3_sickens_38 : decode cX3_sickens 38 = .ok (.aload_n 0, 1) := dk_42 (dk_at dksX3_sickens_1 15 rfl rfl)
theorem dX3_sickens_39 : decode cX3_sickens 39 = .ok (.getfield 13, 3) := dk_180 0 13 (dk_at dksX3_sickens_1 16 rfl rfl)
theorem dX3_sickens_42 : decode cX3_sickens 42 = .ok (.iload_n 1, 1) := dk_27 (dk_at dksX3_sickens_1 19 rfl rfl)
theorem dX3_sickens_43 : decode cX3_sickens 43 = .ok (.bipush 39, 2) := dk_16 39 (dk_at dksX3_sickens_1 20 rfl rfl)
theorem dX3_sickens_45 : decode cX3_sickens 45 = .ok (.iload 7, 2) := dk_21 7 (dk_at dksX3_sickens_1 22 rfl rfl)
theorem dX3_sickens_47 : decode cX3_sickens 47 = .ok (.iadd, 1) := dk_96 (dk_at dksX3_sickens_2 0 rfl rfl)
theorem dX3_sickens_48 : decode cX3_sickens 48 = .ok (.invokestatic 63, 3) := dk_184 0 63 (dk_at dksX3_sickens_2 1 rfl rfl)
theorem dX3_sickens_51 : decode cX3_sickens 51 = .ok (.dup2, 1) := dk_92 (dk_at dksX3_sickens_2 4 rfl rfl)
theorem dX3_sickens_52 : decode cX3_sickens 52 = .ok (.iaload, 1) := dk_46 (dk_at dksX3_sickens_2 5 rfl rfl)
theorem dX3_sickens_53 : decode cX3_sickens 53 = .ok (.iload 8, 2) := dk_21 8 (dk_at dksX3_sickens_2 6 rfl rfl)
theorem dX3_sickens_55 : decode cX3_sickens 55 = .ok (.isub, 1) := dk_100 (dk_at dksX3_sickens_2 8 rfl rfl)
theorem dX3_sickens_56 : decode cX3_sickens 56 = .ok (.iastore, 1) := dk_79 (dk_at dksX3_sickens_2 9 rfl rfl)
theorem dX3_sickens_57 : decode cX3_sickens 57 = .ok (.iload 6, 2) := dk_21 6 (dk_at dksX3_sickens_2 10 rfl rfl)
theorem dX3_sickens_59 : decode cX3_sickens 59 = .ok (.iload 8, 2) := dk_21 8 (dk_at dksX3_sickens_2 12 rfl rfl)
theorem dX3_sickens_61 : decode cX3_sickens 61 = .ok (.iadd, 1) := dk_96 (dk_at dksX3_sickens_2 14 rfl rfl)
theorem dX3_sickens_62 : decode cX3_sickens 62 = .ok (.istore 6, 2) := dk_54 6 (dk_at dksX3_sickens_2 15 rfl rfl)
theorem dX3_sickens_64 : decode cX3_sickens 64 = .ok (.iinc 7 1, 3) := dk_132 7 1 (dk_at dksX3_sickens_2 17 rfl rfl)
theorem dX3_sickens_67 : decode cX3_sickens 67 = .ok (.goto (-54), 3) := dk_167 255 202 (dk_at dksX3_sickens_2 20 rfl rfl)
theorem dX3_sickens_70 : decode cX3_sickens 70 = .ok (.aload_n 0, 1) := dk_42 (dk_at dksX3_sickens_2 23 rfl rfl)
theorem dX3_sickens_71 : decode cX3_sickens 71 = .ok (.getfield 13, 3) := dk_180 0 13 (dk_at dksX3_sickens_3 0 rfl rfl)
theorem dX3_sickens_74 : decode cX3_sickens 74 = .ok (.iload_n 1, 1) := dk_27 (dk_at dksX3_sickens_3 3 rfl rfl)
theorem dX3_sickens_75 : decode cX3_sickens 75 = .ok (.bipush 9, 2) := dk_16 9 (dk_at dksX3_sickens_3 4 rfl rfl)
theorem dX3_sickens_77 : decode cX3_sickens 77 = .ok (.invokestatic 63, 3) := dk_184 0 63 (dk_at dksX3_sickens_3 6 rfl rfl)
theorem dX3_sickens_80 : decode cX3_sickens 80 = .ok (.dup2, 1) := dk_92 (dk_at dksX3_sickens_3 9 rfl rfl)
theorem dX3_sickens_81 : decode cX3_sickens 81 = .ok (.iaload, 1) := dk_46 (dk_at dksX3_sickens_3 10 rfl rfl)
theorem dX3_sickens_82 : decode cX3_sickens 82 = .ok (.iload 6, 2) := dk_21 6 (dk_at dksX3_sickens_3 11 rfl rfl)
theorem dX3_sickens_84 : decode cX3_sickens 84 = .ok (.iadd, 1) := dk_96 (dk_at dksX3_sickens_3 13 rfl rfl)
theorem dX3_sickens_85 : decode cX3_sickens 85 = .ok (.iastore, 1) := dk_79 (dk_at dksX3_sickens_3 14 rfl rfl)
theorem dX3_sickens_86 : decode cX3_sickens 86 = .ok (.aload_n 0, 1) := dk_42 (dk_at dksX3_sickens_3 15 rfl rfl)
theorem dX3_sickens_87 : decode cX3_sickens 87 = .ok (.iload_n 1, 1) := dk_27 (dk_at dksX3_sickens_3 16 rfl rfl)
theorem dX3_sickens_88 : decode cX3_sickens 88 = .ok (.iload 5, 2) := dk_21 5 (dk_at dksX3_sickens_3 17 rfl rfl)
theorem dX3_sickens_90 : decode cX3_sickens 90 = .ok (.invokevirtual 272, 3) := dk_182 1 16 (dk_at dksX3_sickens_3 19 rfl rfl)
theorem dX3_sickens_93 : decode cX3_sickens 93 = .ok (.iload 6, 2) := dk_21 6 (dk_at dksX3_sickens_3 22 rfl rfl)
theorem dX3_sickens_95 : decode cX3_sickens 95 = .ok (.ireturn, 1) := dk_172 (dk_at dksX3_sickens_4 0 rfl rfl)
abbrev cX3_carriesOut : ByteArray := prog_39_method_55_code
def yX3_carriesOut : MethodName := ⟨RX3, "carriesOut", "(I)V"⟩
def dkwX3_carriesOut_4 : List UInt8 := [182, 1, 31, 167, 0, 16, 42, 29, 21, 4, 21, 4, 21, 5, 182, 1, 34, 54, 6, 177]
abbrev dktX3_carriesOut_4 : List UInt8 := dkwX3_carriesOut_4 ++ []
def dkwX3_carriesOut_3 : List UInt8 := [28, 4, 160, 0, 28, 42, 29, 21, 4, 21, 5, 21, 6, 42, 29, 182, 1, 28, 184, 1, 23, 184, 1, 23]
abbrev dktX3_carriesOut_3 : List UInt8 := dkwX3_carriesOut_3 ++ dktX3_carriesOut_4
def dkwX3_carriesOut_2 : List UInt8 := [154, 0, 24, 42, 29, 21, 4, 21, 5, 19, 1, 22, 21, 6, 100, 184, 1, 23, 182, 1, 25, 167, 0, 46]
abbrev dktX3_carriesOut_2 : List UInt8 := dkwX3_carriesOut_2 ++ dktX3_carriesOut_3
def dkwX3_carriesOut_1 : List UInt8 := [96, 46, 54, 4, 42, 180, 0, 13, 27, 7, 96, 46, 54, 5, 42, 29, 21, 4, 182, 0, 74, 54, 6, 28]
abbrev dktX3_carriesOut_1 : List UInt8 := dkwX3_carriesOut_1 ++ dktX3_carriesOut_2
def dkwX3_carriesOut_0 : List UInt8 := [42, 180, 0, 13, 27, 4, 96, 46, 61, 42, 180, 0, 13, 27, 5, 96, 46, 62, 42, 180, 0, 13, 27, 6]
abbrev dktX3_carriesOut_0 : List UInt8 := dkwX3_carriesOut_0 ++ dktX3_carriesOut_1
theorem dksX3_carriesOut_0 : cX3_carriesOut.data.toList.drop 0 = dktX3_carriesOut_0 := by decide +kernel
theorem dksX3_carriesOut_1 : cX3_carriesOut.data.toList.drop 24 = dktX3_carriesOut_1 := dk_seg dksX3_carriesOut_0 24 rfl rfl
theorem dksX3_carriesOut_2 : cX3_carriesOut.data.toList.drop 48 = dktX3_carriesOut_2 := dk_seg dksX3_carriesOut_1 24 rfl rfl
theorem dksX3_carriesOut_3 : cX3_carriesOut.data.toList.drop 72 = dktX3_carriesOut_3 := dk_seg dksX3_carriesOut_2 24 rfl rfl
theorem dksX3_carriesOut_4 : cX3_carriesOut.data.toList.drop 96 = dktX3_carriesOut_4 := dk_seg dksX3_carriesOut_3 24 rfl rfl
theorem dX3_carriesOut_0 : decode cX3_carriesOut 0 = .ok (.aload_n 0, 1) := dk_42 (dk_at dksX3_carriesOut_0 0 rfl rfl)
theorem dX3_carriesOut_1 : decode cX3_carriesOut 1 = .ok (.getfield 13, 3) := dk_180 0 13 (dk_at dksX3_carriesOut_0 1 rfl rfl)
theorem dX3_carriesOut_4 : decode cX3_carriesOut 4 = .ok (.iload_n 1, 1) := dk_27 (dk_at dksX3_carriesOut_0 4 rfl rfl)
theorem dX3_carriesOut_5 : decode cX3_carriesOut 5 = .ok (.iconst 1, 1) := dk_4 (dk_at dksX3_carriesOut_0 5 rfl rfl)
theorem dX3_carriesOut_6 : decode cX3_carriesOut 6 = .ok (.iadd, 1) := dk_96 (dk_at dksX3_carriesOut_0 6 rfl rfl)
theorem dX3_carriesOut_7 : decode cX3_carriesOut 7 = .ok (.iaload, 1) := dk_46 (dk_at dksX3_carriesOut_0 7 rfl rfl)
theorem dX3_carriesOut_8 : decode cX3_carriesOut 8 = .ok (.istore_n 2, 1) := dk_61 (dk_at dksX3_carriesOut_0 8 rfl rfl)
theorem dX3_carriesOut_9 : decode cX3_carriesOut 9 = .ok (.aload_n 0, 1) := dk_42 (dk_at dksX3_carriesOut_0 9 rfl rfl)
theorem dX3_carriesOut_10 : decode cX3_carriesOut 10 = .ok (.getfield 13, 3) := dk_180 0 13 (dk_at dksX3_carriesOut_0 10 rfl rfl)
theorem dX3_carriesOut_13 : decode cX3_carriesOut 13 = .ok (.iload_n 1, 1) := dk_27 (dk_at dksX3_carriesOut_0 13 rfl rfl)
theorem dX3_carriesOut_14 : decode cX3_carriesOut 14 = .ok (.iconst 2, 1) := dk_5 (dk_at dksX3_carriesOut_0 14 rfl rfl)
theorem dX3_carriesOut_15 : decode cX3_carriesOut 15 = .ok (.iadd, 1) := dk_96 (dk_at dksX3_carriesOut_0 15 rfl rfl)
theorem dX3_carriesOut_16 : decode cX3_carriesOut 16 = .ok (.iaload, 1) := dk_46 (dk_at dksX3_carriesOut_0 16 rfl rfl)
theorem dX3_carriesOut_17 : decode cX3_carriesOut 17 = .ok (.istore_n 3, 1) := dk_62 (dk_at dksX3_carriesOut_0 17 rfl rfl)
theorem dX3_carriesOut_18 : decode cX3_carriesOut 18 = .ok (.aload_n 0, 1) := dk_42 (dk_at dksX3_carriesOut_0 18 rfl rfl)
theorem dX3_carriesOut_19 : decode cX3_carriesOut 19 = .ok (.getfield 13, 3) := dk_180 0 13 (dk_at dksX3_carriesOut_0 19 rfl rfl)
theorem dX3_carriesOut_22 : decode cX3_carriesOut 22 = .ok (.iload_n 1, 1) := dk_27 (dk_at dksX3_carriesOut_0 22 rfl rfl)
theorem dX3_carriesOut_23 : decode cX3_carriesOut 23 = .ok (.iconst 3, 1) := dk_6 (dk_at dksX3_carriesOut_0 23 rfl rfl)
theorem dX3_carriesOut_24 : decode cX3_carriesOut 24 = .ok (.iadd, 1) := dk_96 (dk_at dksX3_carriesOut_1 0 rfl rfl)
theorem dX3_carriesOut_25 : decode cX3_carriesOut 25 = .ok (.iaload, 1) := dk_46 (dk_at dksX3_carriesOut_1 1 rfl rfl)
theorem dX3_carriesOut_26 : decode cX3_carriesOut 26 = .ok (.istore 4, 2) := dk_54 4 (dk_at dksX3_carriesOut_1 2 rfl rfl)
theorem dX3_carriesOut_28 : decode cX3_carriesOut 28 = .ok (.aload_n 0, 1) := dk_42 (dk_at dksX3_carriesOut_1 4 rfl rfl)
theorem dX3_carriesOut_29 : decode cX3_carriesOut 29 = .ok (.getfield 13, 3) := dk_180 0 13 (dk_at dksX3_carriesOut_1 5 rfl rfl)
theorem dX3_carriesOut_32 : decode cX3_carriesOut 32 = .ok (.iload_n 1, 1) := dk_27 (dk_at dksX3_carriesOut_1 8 rfl rfl)
theorem dX3_carriesOut_33 : decode cX3_carriesOut 33 = .ok (.iconst 4, 1) := dk_7 (dk_at dksX3_carriesOut_1 9 rfl rfl)
theorem dX3_carriesOut_34 : decode cX3_carriesOut 34 = .ok (.iadd, 1) := dk_96 (dk_at dksX3_carriesOut_1 10 rfl rfl)
theorem dX3_carriesOut_35 : decode cX3_carriesOut 35 = .ok (.iaload, 1) := dk_46 (dk_at dksX3_carriesOut_1 11 rfl rfl)
theorem dX3_carriesOut_36 : decode cX3_carriesOut 36 = .ok (.istore 5, 2) := dk_54 5 (dk_at dksX3_carriesOut_1 12 rfl rfl)
theorem dX3_carriesOut_38 : decode cX3_carriesOut 38 = .ok (.aload_n 0, 1) := dk_42 (dk_at dksX3_carriesOut_1 14 rfl rfl)
theorem dX3_carriesOut_39 : decode cX3_carriesOut 39 = .ok (.iload_n 3, 1) := dk_29 (dk_at dksX3_carriesOut_1 15 rfl rfl)
theorem dX3_carriesOut_40 : decode cX3_carriesOut 40 = .ok (.iload 4, 2) := dk_21 4 (dk_at dksX3_carriesOut_1 16 rfl rfl)
theorem dX3_carriesOut_42 : decode cX3_carriesOut 42 = .ok (.invokevirtual 74, 3) := dk_182 0 74 (dk_at dksX3_carriesOut_1 18 rfl rfl)
theorem dX3_carriesOut_45 : decode cX3_carriesOut 45 = .ok (.istore 6, 2) := dk_54 6 (dk_at dksX3_carriesOut_1 21 rfl rfl)
theorem dX3_carriesOut_47 : decode cX3_carriesOut 47 = .ok (.iload_n 2, 1) := dk_28 (dk_at dksX3_carriesOut_1 23 rfl rfl)
theorem dX3_carriesOut_48 : decode cX3_carriesOut 48 = .ok (.ifCond .ne 24, 3) := dk_154 0 24 (dk_at dksX3_carriesOut_2 0 rfl rfl)
theorem dX3_carriesOut_51 : decode cX3_carriesOut 51 = .ok (.aload_n 0, 1) := dk_42 (dk_at dksX3_carriesOut_2 3 rfl rfl)
theorem dX3_carriesOut_52 : decode cX3_carriesOut 52 = .ok (.iload_n 3, 1) := dk_29 (dk_at dksX3_carriesOut_2 4 rfl rfl)
theorem dX3_carriesOut_53 : decode cX3_carriesOut 53 = .ok (.iload 4, 2) := dk_21 4 (dk_at dksX3_carriesOut_2 5 rfl rfl)
theorem dX3_carriesOut_55 : decode cX3_carriesOut 55 = .ok (.iload 5, 2) := dk_21 5 (dk_at dksX3_carriesOut_2 7 rfl rfl)
theorem dX3_carriesOut_57 : decode cX3_carriesOut 57 = .ok (.ldc_w 278, 3) := dk_19 1 22 (dk_at dksX3_carriesOut_2 9 rfl rfl)
theorem dX3_carriesOut_60 : decode cX3_carriesOut 60 = .ok (.iload 6, 2) := dk_21 6 (dk_at dksX3_carriesOut_2 12 rfl rfl)
theorem dX3_carriesOut_62 : decode cX3_carriesOut 62 = .ok (.isub, 1) := dk_100 (dk_at dksX3_carriesOut_2 14 rfl rfl)
theorem dX3_carriesOut_63 : decode cX3_carriesOut 63 = .ok (.invokestatic 279, 3) := dk_184 1 23 (dk_at dksX3_carriesOut_2 15 rfl rfl)
theorem dX3_carriesOut_66 : decode cX3_carriesOut 66 = .ok (.invokevirtual 281, 3) := dk_182 1 25 (dk_at dksX3_carriesOut_2 18 rfl rfl)
theorem dX3_carriesOut_69 : decode cX3_carriesOut 69 = .ok (.goto 46, 3) := dk_167 0 46 (dk_at dksX3_carriesOut_2 21 rfl rfl)
theorem dX3_carriesOut_72 : decode cX3_carriesOut 72 = .ok (.iload_n 2, 1) := dk_28 (dk_at dksX3_carriesOut_3 0 rfl rfl)
theorem dX3_carriesOut_73 : decode cX3_carriesOut 73 = .ok (.iconst 1, 1) := dk_4 (dk_at dksX3_carriesOut_3 1 rfl rfl)
theorem dX3_carriesOut_74 : decode cX3_carriesOut 74 = .ok (.if_icmp .ne 28, 3) := dk_160 0 28 (dk_at dksX3_carriesOut_3 2 rfl rfl)
theorem dX3_carriesOut_77 : decode cX3_carriesOut 77 = .ok (.aload_n 0, 1) := dk_42 (dk_at dksX3_carriesOut_3 5 rfl rfl)
theorem dX3_carriesOut_78 : decode cX3_carriesOut 78 = .ok (.iload_n 3, 1) := dk_29 (dk_at dksX3_carriesOut_3 6 rfl rfl)
theorem dX3_carriesOut_79 : decode cX3_carriesOut 79 = .ok (.iload 4, 2) := dk_21 4 (dk_at dksX3_carriesOut_3 7 rfl rfl)
theorem dX3_carriesOut_81 : decode cX3_carriesOut 81 = .ok (.iload 5, 2) := dk_21 5 (dk_at dksX3_carriesOut_3 9 rfl rfl)
theorem dX3_carriesOut_83 : decode cX3_carriesOut 83 = .ok (.iload 6, 2) := dk_21 6 (dk_at dksX3_carriesOut_3 11 rfl rfl)
theorem dX3_carriesOut_85 : decode cX3_carriesOut 85 = .ok (.aload_n 0, 1) := dk_42 (dk_at dksX3_carriesOut_3 13 rfl rfl)
theorem dX3_carriesOut_86 : decode cX3_carriesOut 86 = .ok (.iload_n 3, 1) := dk_29 (dk_at dksX3_carriesOut_3 14 rfl rfl)
theorem dX3_carriesOut_87 : decode cX3_carriesOut 87 = .ok (.invokevirtual 284, 3) := dk_182 1 28 (dk_at dksX3_carriesOut_3 15 rfl rfl)
theorem dX3_carriesOut_90 : decode cX3_carriesOut 90 = .ok (.invokestatic 279, 3) := dk_184 1 23 (dk_at dksX3_carriesOut_3 18 rfl rfl)
theorem dX3_carriesOut_93 : decode cX3_carriesOut 93 = .ok (.invokestatic 279, 3) := dk_184 1 23 (dk_at dksX3_carriesOut_3 21 rfl rfl)
theorem dX3_carriesOut_96 : decode cX3_carriesOut 96 = .ok (.invokevirtual 287, 3) := dk_182 1 31 (dk_at dksX3_carriesOut_4 0 rfl rfl)
theorem dX3_carriesOut_99 : decode cX3_carriesOut 99 = .ok (.goto 16, 3) := dk_167 0 16 (dk_at dksX3_carriesOut_4 3 rfl rfl)
theorem dX3_carriesOut_102 : decode cX3_carriesOut 102 = .ok (.aload_n 0, 1) := dk_42 (dk_at dksX3_carriesOut_4 6 rfl rfl)
theorem dX3_carriesOut_103 : decode cX3_carriesOut 103 = .ok (.iload_n 3, 1) := dk_29 (dk_at dksX3_carriesOut_4 7 rfl rfl)
theorem dX3_carriesOut_104 : decode cX3_carriesOut 104 = .ok (.iload 4, 2) := dk_21 4 (dk_at dksX3_carriesOut_4 8 rfl rfl)
theorem dX3_carriesOut_106 : decode cX3_carriesOut 106 = .ok (.iload 4, 2) := dk_21 4 (dk_at dksX3_carriesOut_4 10 rfl rfl)
theorem dX3_carriesOut_108 : decode cX3_carriesOut 108 = .ok (.iload 5, 2) := dk_21 5 (dk_at dksX3_carriesOut_4 12 rfl rfl)
theorem dX3_carriesOut_110 : decode cX3_carriesOut 110 = .ok (.invokevirtual 290, 3) := dk_182 1 34 (dk_at dksX3_carriesOut_4 14 rfl rfl)
theorem dX3_carriesOut_113 : decode cX3_carriesOut 113 = .ok (.istore 6, 2) := dk_54 6 (dk_at dksX3_carriesOut_4 17 rfl rfl)
theorem dX3_carriesOut_115 : decode cX3_carriesOut 115 = .ok (.return_, 1) := dk_177 (dk_at dksX3_carriesOut_4 19 rfl rfl)
abbrev cX3_removesPlan : ByteArray := prog_39_method_56_code
def yX3_removesPlan : MethodName := ⟨RX3, "removesPlan", "(I)V"⟩
def dkwX3_removesPlan_2 : List UInt8 := [167, 255, 225, 177]
abbrev dktX3_removesPlan_2 : List UInt8 := dkwX3_removesPlan_2 ++ []
def dkwX3_removesPlan_1 : List UInt8 := [46, 104, 96, 162, 0, 23, 42, 180, 0, 13, 28, 42, 180, 0, 13, 28, 8, 96, 46, 79, 132, 2, 1]
abbrev dktX3_removesPlan_1 : List UInt8 := dkwX3_removesPlan_1 ++ dktX3_removesPlan_2
def dkwX3_removesPlan_0 : List UInt8 := [42, 180, 0, 13, 6, 92, 46, 4, 100, 79, 7, 8, 27, 104, 96, 61, 28, 7, 8, 42, 180, 0, 13, 6]
abbrev dktX3_removesPlan_0 : List UInt8 := dkwX3_removesPlan_0 ++ dktX3_removesPlan_1
theorem dksX3_removesPlan_0 : cX3_removesPlan.data.toList.drop 0 = dktX3_removesPlan_0 := by decide +kernel
theorem dksX3_removesPlan_1 : cX3_removesPlan.data.toList.drop 24 = dktX3_removesPlan_1 := dk_seg dksX3_removesPlan_0 24 rfl rfl
theorem dksX3_removesPlan_2 : cX3_removesPlan.data.toList.drop 47 = dktX3_removesPlan_2 := dk_seg dksX3_removesPlan_1 23 rfl rfl
theorem dX3_removesPlan_0 : decode cX3_removesPlan 0 = .ok (.aload_n 0, 1) := dk_42 (dk_at dksX3_removesPlan_0 0 rfl rfl)
theorem dX3_removesPlan_1 : decode cX3_removesPlan 1 = .ok (.getfield 13, 3) := dk_180 0 13 (dk_at dksX3_removesPlan_0 1 rfl rfl)
theorem dX3_removesPlan_4 : decode cX3_removesPlan 4 = .ok (.iconst 3, 1) := dk_6 (dk_at dksX3_removesPlan_0 4 rfl rfl)
theorem dX3_removesPlan_5 : decode cX3_removesPlan 5 = .ok (.dup2, 1) := dk_92 (dk_at dksX3_removesPlan_0 5 rfl rfl)
theorem dX3_removesPlan_6 : decode cX3_removesPlan 6 = .ok (.iaload, 1) := dk_46 (dk_at dksX3_removesPlan_0 6 rfl rfl)
theorem dX3_removesPlan_7 : decode cX3_removesPlan 7 = .ok (.iconst 1, 1) := dk_4 (dk_at dksX3_removesPlan_0 7 rfl rfl)
theorem dX3_removesPlan_8 : decode cX3_removesPlan 8 = .ok (.isub, 1) := dk_100 (dk_at dksX3_removesPlan_0 8 rfl rfl)
theorem dX3_removesPlan_9 : decode cX3_removesPlan 9 = .ok (.iastore, 1) := dk_79 (dk_at dksX3_removesPlan_0 9 rfl rfl)
theorem dX3_removesPlan_10 : decode cX3_removesPlan 10 = .ok (.iconst 4, 1) := dk_7 (dk_at dksX3_removesPlan_0 10 rfl rfl)
theorem dX3_removesPlan_11 : decode cX3_removesPlan 11 = .ok (.iconst 5, 1) := dk_8 (dk_at dksX3_removesPlan_0 11 rfl rfl)
theorem dX3_removesPlan_12 : decode cX3_removesPlan 12 = .ok (.iload_n 1, 1) := dk_27 (dk_at dksX3_removesPlan_0 12 rfl rfl)
theorem dX3_removesPlan_13 : decode cX3_removesPlan 13 = .ok (.imul, 1) := dk_104 (dk_at dksX3_removesPlan_0 13 rfl rfl)
theorem dX3_removesPlan_14 : decode cX3_removesPlan 14 = .ok (.iadd, 1) := dk_96 (dk_at dksX3_removesPlan_0 14 rfl rfl)
theorem dX3_removesPlan_15 : decode cX3_removesPlan 15 = .ok (.istore_n 2, 1) := dk_61 (dk_at dksX3_removesPlan_0 15 rfl rfl)
theorem dX3_removesPlan_16 : decode cX3_removesPlan 16 = .ok (.iload_n 2, 1) := dk_28 (dk_at dksX3_removesPlan_0 16 rfl rfl)
theorem dX3_removesPlan_17 : decode cX3_removesPlan 17 = .ok (.iconst 4, 1) := dk_7 (dk_at dksX3_removesPlan_0 17 rfl rfl)
theorem dX3_removesPlan_18 : decode cX3_removesPlan 18 = .ok (.iconst 5, 1) := dk_8 (dk_at dksX3_removesPlan_0 18 rfl rfl)
theorem dX3_removesPlan_19 : decode cX3_removesPlan 19 = .ok (.aload_n 0, 1) := dk_42 (dk_at dksX3_removesPlan_0 19 rfl rfl)
theorem dX3_removesPlan_20 : decode cX3_removesPlan 20 = .ok (.getfield 13, 3) := dk_180 0 13 (dk_at dksX3_removesPlan_0 20 rfl rfl)
theorem dX3_removesPlan_23 : decode cX3_removesPlan 23 = .ok (.iconst 3, 1) := dk_6 (dk_at dksX3_removesPlan_0 23 rfl rfl)
theorem dX3_removesPlan_24 : decode cX3_removesPlan 24 = .ok (.iaload, 1) := dk_46 (dk_at dksX3_removesPlan_1 0 rfl rfl)
theorem dX3_removesPlan_25 : decode cX3_removesPlan 25 = .ok (.imul, 1) := dk_104 (dk_at dksX3_removesPlan_1 1 rfl rfl)
theorem dX3_removesPlan_26 : decode cX3_removesPlan 26 = .ok (.iadd, 1) := dk_96 (dk_at dksX3_removesPlan_1 2 rfl rfl)
theorem dX3_removesPlan_27 : decode cX3_removesPlan 27 = .ok (.if_icmp .ge 23, 3) := dk_162 0 23 (dk_at dksX3_removesPlan_1 3 rfl rfl)
theorem dX3_removesPlan_30 : decode cX3_removesPlan 30 = .ok (.aload_n 0, 1) := dk_42 (dk_at dksX3_removesPlan_1 6 rfl rfl)
theorem dX3_removesPlan_31 : decode cX3_removesPlan 31 = .ok (.getfield 13, 3) := dk_180 0 13 (dk_at dksX3_removesPlan_1 7 rfl rfl)
theorem dX3_removesPlan_34 : decode cX3_removesPlan 34 = .ok (.iload_n 2, 1) := dk_28 (dk_at dksX3_removesPlan_1 10 rfl rfl)
theorem dX3_removesPlan_35 : decode cX3_removesPlan 35 = .ok (.aload_n 0, 1) := dk_42 (dk_at dksX3_removesPlan_1 11 rfl rfl)
theorem dX3_removesPlan_36 : decode cX3_removesPlan 36 = .ok (.getfield 13, 3) := dk_180 0 13 (dk_at dksX3_removesPlan_1 12 rfl rfl)
theorem dX3_removesPlan_39 : decode cX3_removesPlan 39 = .ok (.iload_n 2, 1) := dk_28 (dk_at dksX3_removesPlan_1 15 rfl rfl)
theorem dX3_removesPlan_40 : decode cX3_removesPlan 40 = .ok (.iconst 5, 1) := dk_8 (dk_at dksX3_removesPlan_1 16 rfl rfl)
theorem dX3_removesPlan_41 : decode cX3_removesPlan 41 = .ok (.iadd, 1) := dk_96 (dk_at dksX3_removesPlan_1 17 rfl rfl)
theorem dX3_removesPlan_42 : decode cX3_removesPlan 42 = .ok (.iaload, 1) := dk_46 (dk_at dksX3_removesPlan_1 18 rfl rfl)
theorem dX3_removesPlan_43 : decode cX3_removesPlan 43 = .ok (.iastore, 1) := dk_79 (dk_at dksX3_removesPlan_1 19 rfl rfl)
theorem dX3_removesPlan_44 : decode cX3_removesPlan 44 = .ok (.iinc 2 1, 3) := dk_132 2 1 (dk_at dksX3_removesPlan_1 20 rfl rfl)
theorem dX3_removesPlan_47 : decode cX3_removesPlan 47 = .ok (.goto (-31), 3) := dk_167 255 225 (dk_at dksX3_removesPlan_2 0 rfl rfl)
theorem dX3_removesPlan_50 : decode cX3_removesPlan 50 = .ok (.return_, 1) := dk_177 (dk_at dksX3_removesPlan_2 3 rfl rfl)
abbrev cX3_carriesOutAll : ByteArray := prog_39_method_57_code
def yX3_carriesOutAll : MethodName := ⟨RX3, "carriesOutAll", "()I"⟩
def dkwX3_carriesOutAll_1 : List UInt8 := [160, 0, 19, 42, 7, 182, 1, 38, 42, 3, 182, 1, 41, 132, 1, 1, 167, 255, 219, 27, 172]
abbrev dktX3_carriesOutAll_1 : List UInt8 := dkwX3_carriesOutAll_1 ++ []
def dkwX3_carriesOutAll_0 : List UInt8 := [3, 60, 42, 180, 0, 13, 6, 46, 158, 0, 34, 42, 180, 0, 13, 7, 46, 42, 180, 0, 13, 4, 46]
abbrev dktX3_carriesOutAll_0 : List UInt8 := dkwX3_carriesOutAll_0 ++ dktX3_carriesOutAll_1
theorem dksX3_carriesOutAll_0 : cX3_carriesOutAll.data.toList.drop 0 = dktX3_carriesOutAll_0 := by decide +kernel
theorem dksX3_carriesOutAll_1 : cX3_carriesOutAll.data.toList.drop 23 = dktX3_carriesOutAll_1 := dk_seg dksX3_carriesOutAll_0 23 rfl rfl
theorem dX3_carriesOutAll_0 : decode cX3_carriesOutAll 0 = .ok (.iconst 0, 1) := dk_3 (dk_at dksX3_carriesOutAll_0 0 rfl rfl)
theorem dX3_carriesOutAll_1 : decode cX3_carriesOutAll 1 = .ok (.istore_n 1, 1) := dk_60 (dk_at dksX3_carriesOutAll_0 1 rfl rfl)
theorem dX3_carriesOutAll_2 : decode cX3_carriesOutAll 2 = .ok (.aload_n 0, 1) := dk_42 (dk_at dksX3_carriesOutAll_0 2 rfl rfl)
theorem dX3_carriesOutAll_3 : decode cX3_carriesOutAll 3 = .ok (.getfield 13, 3) := dk_180 0 13 (dk_at dksX3_carriesOutAll_0 3 rfl rfl)
theorem dX3_carriesOutAll_6 : decode cX3_carriesOutAll 6 = .ok (.iconst 3, 1) := dk_6 (dk_at dksX3_carriesOutAll_0 6 rfl rfl)
theorem dX3_carriesOutAll_7 : decode cX3_carriesOutAll 7 = .ok (.iaload, 1) := dk_46 (dk_at dksX3_carriesOutAll_0 7 rfl rfl)
theorem dX3_carriesOutAll_8 : decode cX3_carriesOutAll 8 = .ok (.ifCond .le 34, 3) := dk_158 0 34 (dk_at dksX3_carriesOutAll_0 8 rfl rfl)
theorem dX3_carriesOutAll_11 : decode cX3_carriesOutAll 11 = .ok (.aload_n 0, 1) := dk_42 (dk_at dksX3_carriesOutAll_0 11 rfl rfl)
theorem dX3_carriesOutAll_12 : decode cX3_carriesOutAll 12 = .ok (.getfield 13, 3) := dk_180 0 13 (dk_at dksX3_carriesOutAll_0 12 rfl rfl)
theorem dX3_carriesOutAll_15 : decode cX3_carriesOutAll 15 = .ok (.iconst 4, 1) := dk_7 (dk_at dksX3_carriesOutAll_0 15 rfl rfl)
theorem dX3_carriesOutAll_16 : decode cX3_carriesOutAll 16 = .ok (.iaload, 1) := dk_46 (dk_at dksX3_carriesOutAll_0 16 rfl rfl)
theorem dX3_carriesOutAll_17 : decode cX3_carriesOutAll 17 = .ok (.aload_n 0, 1) := dk_42 (dk_at dksX3_carriesOutAll_0 17 rfl rfl)
theorem dX3_carriesOutAll_18 : decode cX3_carriesOutAll 18 = .ok (.getfield 13, 3) := dk_180 0 13 (dk_at dksX3_carriesOutAll_0 18 rfl rfl)
theorem dX3_carriesOutAll_21 : decode cX3_carriesOutAll 21 = .ok (.iconst 1, 1) := dk_4 (dk_at dksX3_carriesOutAll_0 21 rfl rfl)
theorem dX3_carriesOutAll_22 : decode cX3_carriesOutAll 22 = .ok (.iaload, 1) := dk_46 (dk_at dksX3_carriesOutAll_0 22 rfl rfl)
theorem dX3_carriesOutAll_23 : decode cX3_carriesOutAll 23 = .ok (.if_icmp .ne 19, 3) := dk_160 0 19 (dk_at dksX3_carriesOutAll_1 0 rfl rfl)
theorem dX3_carriesOutAll_26 : decode cX3_carriesOutAll 26 = .ok (.aload_n 0, 1) := dk_42 (dk_at dksX3_carriesOutAll_1 3 rfl rfl)
theorem dX3_carriesOutAll_27 : decode cX3_carriesOutAll 27 = .ok (.iconst 4, 1) := dk_7 (dk_at dksX3_carriesOutAll_1 4 rfl rfl)
theorem dX3_carriesOutAll_28 : decode cX3_carriesOutAll 28 = .ok (.invokevirtual 294, 3) := dk_182 1 38 (dk_at dksX3_carriesOutAll_1 5 rfl rfl)
theorem dX3_carriesOutAll_31 : decode cX3_carriesOutAll 31 = .ok (.aload_n 0, 1) := dk_42 (dk_at dksX3_carriesOutAll_1 8 rfl rfl)
theorem dX3_carriesOutAll_32 : decode cX3_carriesOutAll 32 = .ok (.iconst 0, 1) := dk_3 (dk_at dksX3_carriesOutAll_1 9 rfl rfl)
theorem dX3_carriesOutAll_33 : decode cX3_carriesOutAll 33 = .ok (.invokevirtual 297, 3) := dk_182 1 41 (dk_at dksX3_carriesOutAll_1 10 rfl rfl)
theorem dX3_carriesOutAll_36 : decode cX3_carriesOutAll 36 = .ok (.iinc 1 1, 3) := dk_132 1 1 (dk_at dksX3_carriesOutAll_1 13 rfl rfl)
theorem dX3_carriesOutAll_39 : decode cX3_carriesOutAll 39 = .ok (.goto (-37), 3) := dk_167 255 219 (dk_at dksX3_carriesOutAll_1 16 rfl rfl)
theorem dX3_carriesOutAll_42 : decode cX3_carriesOutAll 42 = .ok (.iload_n 1, 1) := dk_27 (dk_at dksX3_carriesOutAll_1 19 rfl rfl)
theorem dX3_carriesOutAll_43 : decode cX3_carriesOutAll 43 = .ok (.ireturn, 1) := dk_172 (dk_at dksX3_carriesOutAll_1 20 rfl rfl)
abbrev cX3_closes : ByteArray := prog_39_method_60_code
def yX3_closes : MethodName := ⟨RX3, "closes", "()I"⟩
def dkwX3_closes_5 : List UInt8 := [162, 0, 14, 42, 28, 182, 1, 13, 132, 2, 1, 167, 255, 238, 27, 172]
abbrev dktX3_closes_5 : List UInt8 := dkwX3_closes_5 ++ []
def dkwX3_closes_4 : List UInt8 := [4, 96, 79, 42, 180, 0, 13, 4, 92, 46, 4, 96, 79, 3, 61, 28, 42, 180, 0, 13, 3, 46]
abbrev dktX3_closes_4 : List UInt8 := dkwX3_closes_4 ++ dktX3_closes_5
def dkwX3_closes_3 : List UInt8 := [29, 182, 1, 52, 79, 132, 3, 1, 167, 255, 221, 132, 2, 1, 167, 255, 203, 42, 180, 0, 13, 5, 92, 46]
abbrev dktX3_closes_3 : List UInt8 := dkwX3_closes_3 ++ dktX3_closes_4
def dkwX3_closes_2 : List UInt8 := [162, 0, 35, 42, 180, 0, 24, 42, 180, 0, 13, 5, 46, 7, 104, 28, 96, 16, 7, 104, 29, 96, 42, 28]
abbrev dktX3_closes_2 : List UInt8 := dkwX3_closes_2 ++ dktX3_closes_3
def dkwX3_closes_1 : List UInt8 := [132, 2, 1, 167, 255, 238, 3, 61, 28, 42, 180, 0, 13, 3, 46, 162, 0, 49, 3, 62, 29, 16, 7]
abbrev dktX3_closes_1 : List UInt8 := dkwX3_closes_1 ++ dktX3_closes_2
def dkwX3_closes_0 : List UInt8 := [42, 182, 1, 46, 60, 3, 61, 28, 42, 180, 0, 13, 3, 46, 162, 0, 14, 42, 28, 182, 1, 49]
abbrev dktX3_closes_0 : List UInt8 := dkwX3_closes_0 ++ dktX3_closes_1
theorem dksX3_closes_0 : cX3_closes.data.toList.drop 0 = dktX3_closes_0 := by decide +kernel
theorem dksX3_closes_1 : cX3_closes.data.toList.drop 22 = dktX3_closes_1 := dk_seg dksX3_closes_0 22 rfl rfl
theorem dksX3_closes_2 : cX3_closes.data.toList.drop 45 = dktX3_closes_2 := dk_seg dksX3_closes_1 23 rfl rfl
theorem dksX3_closes_3 : cX3_closes.data.toList.drop 69 = dktX3_closes_3 := dk_seg dksX3_closes_2 24 rfl rfl
theorem dksX3_closes_4 : cX3_closes.data.toList.drop 93 = dktX3_closes_4 := dk_seg dksX3_closes_3 24 rfl rfl
theorem dksX3_closes_5 : cX3_closes.data.toList.drop 115 = dktX3_closes_5 := dk_seg dksX3_closes_4 22 rfl rfl
theorem dX3_closes_0 : decode cX3_closes 0 = .ok (.aload_n 0, 1) := dk_42 (dk_at dksX3_closes_0 0 rfl rfl)
theorem dX3_closes_1 : decode cX3_closes 1 = .ok (.invokevirtual 302, 3) := dk_182 1 46 (dk_at dksX3_closes_0 1 rfl rfl)
theorem dX3_closes_4 : decode cX3_closes 4 = .ok (.istore_n 1, 1) := dk_60 (dk_at dksX3_closes_0 4 rfl rfl)
theorem dX3_closes_5 : decode cX3_closes 5 = .ok (.iconst 0, 1) := dk_3 (dk_at dksX3_closes_0 5 rfl rfl)
theorem dX3_closes_6 : decode cX3_closes 6 = .ok (.istore_n 2, 1) := dk_61 (dk_at dksX3_closes_0 6 rfl rfl)
theorem dX3_closes_7 : decode cX3_closes 7 = .ok (.iload_n 2, 1) := dk_28 (dk_at dksX3_closes_0 7 rfl rfl)
theorem dX3_closes_8 : decode cX3_closes 8 = .ok (.aload_n 0, 1) := dk_42 (dk_at dksX3_closes_0 8 rfl rfl)
theorem dX3_closes_9 : decode cX3_closes 9 = .ok (.getfield 13, 3) := dk_180 0 13 (dk_at dksX3_closes_0 9 rfl rfl)
theorem dX3_closes_12 : decode cX3_closes 12 = .ok (.iconst 0, 1) := dk_3 (dk_at dksX3_closes_0 12 rfl rfl)
theorem dX3_closes_13 : decode cX3_closes 13 = .ok (.iaload, 1) := dk_46 (dk_at dksX3_closes_0 13 rfl rfl)
theorem dX3_closes_14 : decode cX3_closes 14 = .ok (.if_icmp .ge 14, 3) := dk_162 0 14 (dk_at dksX3_closes_0 14 rfl rfl)
theorem dX3_closes_17 : decode cX3_closes 17 = .ok (.aload_n 0, 1) := dk_42 (dk_at dksX3_closes_0 17 rfl rfl)
theorem dX3_closes_18 : decode cX3_closes 18 = .ok (.iload_n 2, 1) := dk_28 (dk_at dksX3_closes_0 18 rfl rfl)
theorem dX3_closes_19 : decode cX3_closes 19 = .ok (.invokevirtual 305, 3) := dk_182 1 49 (dk_at dksX3_closes_0 19 rfl rfl)
theorem dX3_closes_22 : decode cX3_closes 22 = .ok (.iinc 2 1, 3) := dk_132 2 1 (dk_at dksX3_closes_1 0 rfl rfl)
theorem dX3_closes_25 : decode cX3_closes 25 = .ok (.goto (-18), 3) := dk_167 255 238 (dk_at dksX3_closes_1 3 rfl rfl)
theorem dX3_closes_28 : decode cX3_closes 28 = .ok (.iconst 0, 1) := dk_3 (dk_at dksX3_closes_1 6 rfl rfl)
theorem dX3_closes_29 : decode cX3_closes 29 = .ok (.istore_n 2, 1) := dk_61 (dk_at dksX3_closes_1 7 rfl rfl)
theorem dX3_closes_30 : decode cX3_closes 30 = .ok (.iload_n 2, 1) := dk_28 (dk_at dksX3_closes_1 8 rfl rfl)
theorem dX3_closes_31 : decode cX3_closes 31 = .ok (.aload_n 0, 1) := dk_42 (dk_at dksX3_closes_1 9 rfl rfl)
theorem dX3_closes_32 : decode cX3_closes 32 = .ok (.getfield 13, 3) := dk_180 0 13 (dk_at dksX3_closes_1 10 rfl rfl)
theorem dX3_closes_35 : decode cX3_closes 35 = .ok (.iconst 0, 1) := dk_3 (dk_at dksX3_closes_1 13 rfl rfl)
theorem dX3_closes_36 : decode cX3_closes 36 = .ok (.iaload, 1) := dk_46 (dk_at dksX3_closes_1 14 rfl rfl)
theorem dX3_closes_37 : decode cX3_closes 37 = .ok (.if_icmp .ge 49, 3) := dk_162 0 49 (dk_at dksX3_closes_1 15 rfl rfl)
theorem dX3_closes_40 : decode cX3_closes 40 = .ok (.iconst 0, 1) := dk_3 (dk_at dksX3_closes_1 18 rfl rfl)
theorem dX3_closes_41 : decode cX3_closes 41 = .ok (.istore_n 3, 1) := dk_62 (dk_at dksX3_closes_1 19 rfl rfl)
theorem dX3_closes_42 : decode cX3_closes 42 = .ok (.iload_n 3, 1) := dk_29 (dk_at dksX3_closes_1 20 rfl rfl)
theorem dX3_closes_43 : decode cX3_closes 43 = .ok (.bipush 7, 2) := dk_16 7 (dk_at dksX3_closes_1 21 rfl rfl)
theorem dX3_closes_45 : decode cX3_closes 45 = .ok (.if_icmp .ge 35, 3) := dk_162 0 35 (dk_at dksX3_closes_2 0 rfl rfl)
theorem dX3_closes_48 : decode cX3_closes 48 = .ok (.aload_n 0, 1) := dk_42 (dk_at dksX3_closes_2 3 rfl rfl)
theorem dX3_closes_49 : decode cX3_closes 49 = .ok (.getfield 24, 3) := dk_180 0 24 (dk_at dksX3_closes_2 4 rfl rfl)
theorem dX3_closes_52 : decode cX3_closes 52 = .ok (.aload_n 0, 1) := dk_42 (dk_at dksX3_closes_2 7 rfl rfl)
theorem dX3_closes_53 : decode cX3_closes 53 = .ok (.getfield 13, 3) := dk_180 0 13 (dk_at dksX3_closes_2 8 rfl rfl)
theorem dX3_closes_56 : decode cX3_closes 56 = .ok (.iconst 2, 1) := dk_5 (dk_at dksX3_closes_2 11 rfl rfl)
theorem dX3_closes_57 : decode cX3_closes 57 = .ok (.iaload, 1) := dk_46 (dk_at dksX3_closes_2 12 rfl rfl)
theorem dX3_closes_58 : decode cX3_closes 58 = .ok (.iconst 4, 1) := dk_7 (dk_at dksX3_closes_2 13 rfl rfl)
theorem dX3_closes_59 : decode cX3_closes 59 = .ok (.imul, 1) := dk_104 (dk_at dksX3_closes_2 14 rfl rfl)
theorem dX3_closes_60 : decode cX3_closes 60 = .ok (.iload_n 2, 1) := dk_28 (dk_at dksX3_closes_2 15 rfl rfl)
theorem dX3_closes_61 : decode cX3_closes 61 = .ok (.iadd, 1) := dk_96 (dk_at dksX3_closes_2 16 rfl rfl)
theorem dX3_closes_62 : decode cX3_closes 62 = .ok (.bipush 7, 2) := dk_16 7 (dk_at dksX3_closes_2 17 rfl rfl)
theorem dX3_closes_64 : decode cX3_closes 64 = .ok (.imul, 1) := dk_104 (dk_at dksX3_closes_2 19 rfl rfl)
theorem dX3_closes_65 : decode cX3_closes 65 = .ok (.iload_n 3, 1) := dk_29 (dk_at dksX3_closes_2 20 rfl rfl)
theorem dX3_closes_66 : decode cX3_closes 66 = .ok (.iadd, 1) := dk_96 (dk_at dksX3_closes_2 21 rfl rfl)
theorem dX3_closes_67 : decode cX3_closes 67 = .ok (.aload_n 0, 1) := dk_42 (dk_at dksX3_closes_2 22 rfl rfl)
theorem dX3_closes_68 : decode cX3_closes 68 = .ok (.iload_n 2, 1) := dk_28 (dk_at dksX3_closes_2 23 rfl rfl)
theorem dX3_closes_69 : decode cX3_closes 69 = .ok (.iload_n 3, 1) := dk_29 (dk_at dksX3_closes_3 0 rfl rfl)
theorem dX3_closes_70 : decode cX3_closes 70 = .ok (.invokevirtual 308, 3) := dk_182 1 52 (dk_at dksX3_closes_3 1 rfl rfl)
theorem dX3_closes_73 : decode cX3_closes 73 = .ok (.iastore, 1) := dk_79 (dk_at dksX3_closes_3 4 rfl rfl)
theorem dX3_closes_74 : decode cX3_closes 74 = .ok (.iinc 3 1, 3) := dk_132 3 1 (dk_at dksX3_closes_3 5 rfl rfl)
theorem dX3_closes_77 : decode cX3_closes 77 = .ok (.goto (-35), 3) := dk_167 255 221 (dk_at dksX3_closes_3 8 rfl rfl)
theorem dX3_closes_80 : decode cX3_closes 80 = .ok (.iinc 2 1, 3) := dk_132 2 1 (dk_at dksX3_closes_3 11 rfl rfl)
theorem dX3_closes_83 : decode cX3_closes 83 = .ok (.goto (-53), 3) := dk_167 255 203 (dk_at dksX3_closes_3 14 rfl rfl)
theorem dX3_closes_86 : decode cX3_closes 86 = .ok (.aload_n 0, 1) := dk_42 (dk_at dksX3_closes_3 17 rfl rfl)
theorem dX3_closes_87 : decode cX3_closes 87 = .ok (.getfield 13, 3) := dk_180 0 13 (dk_at dksX3_closes_3 18 rfl rfl)
theorem dX3_closes_90 : decode cX3_closes 90 = .ok (.iconst 2, 1) := dk_5 (dk_at dksX3_closes_3 21 rfl rfl)
theorem dX3_closes_91 : decode cX3_closes 91 = .ok (.dup2, 1) := dk_92 (dk_at dksX3_closes_3 22 rfl rfl)
theorem dX3_closes_92 : decode cX3_closes 92 = .ok (.iaload, 1) := dk_46 (dk_at dksX3_closes_3 23 rfl rfl)
theorem dX3_closes_93 : decode cX3_closes 93 = .ok (.iconst 1, 1) := dk_4 (dk_at dksX3_closes_4 0 rfl rfl)
theorem dX3_closes_94 : decode cX3_closes 94 = .ok (.iadd, 1) := dk_96 (dk_at dksX3_closes_4 1 rfl rfl)
theorem dX3_closes_95 : decode cX3_closes 95 = .ok (.iastore, 1) := dk_79 (dk_at dksX3_closes_4 2 rfl rfl)
theorem dX3_closes_96 : decode cX3_closes 96 = .ok (.aload_n 0, 1) := dk_42 (dk_at dksX3_closes_4 3 rfl rfl)
theorem dX3_closes_97 : decode cX3_closes 97 = .ok (.getfield 13, 3) := dk_180 0 13 (dk_at dksX3_closes_4 4 rfl rfl)
theorem dX3_closes_100 : decode cX3_closes 100 = .ok (.iconst 1, 1) := dk_4 (dk_at dksX3_closes_4 7 rfl rfl)
theorem dX3_closes_101 : decode cX3_closes 101 = .ok (.dup2, 1) := dk_92 (dk_at dksX3_closes_4 8 rfl rfl)
theorem dX3_closes_102 : decode cX3_closes 102 = .ok (.iaload, 1) := dk_46 (dk_at dksX3_closes_4 9 rfl rfl)
theorem dX3_closes_103 : decode cX3_closes 103 = .ok (.iconst 1, 1) := dk_4 (dk_at dksX3_closes_4 10 rfl rfl)
theorem dX3_closes_104 : decode cX3_closes 104 = .ok (.iadd, 1) := dk_96 (dk_at dksX3_closes_4 11 rfl rfl)
theorem dX3_closes_105 : decode cX3_closes 105 = .ok (.iastore, 1) := dk_79 (dk_at dksX3_closes_4 12 rfl rfl)
theorem dX3_closes_106 : decode cX3_closes 106 = .ok (.iconst 0, 1) := dk_3 (dk_at dksX3_closes_4 13 rfl rfl)
theorem dX3_closes_107 : decode cX3_closes 107 = .ok (.istore_n 2, 1) := dk_61 (dk_at dksX3_closes_4 14 rfl rfl)
theorem dX3_closes_108 : decode cX3_closes 108 = .ok (.iload_n 2, 1) := dk_28 (dk_at dksX3_closes_4 15 rfl rfl)
theorem dX3_closes_109 : decode cX3_closes 109 = .ok (.aload_n 0, 1) := dk_42 (dk_at dksX3_closes_4 16 rfl rfl)
theorem dX3_closes_110 : decode cX3_closes 110 = .ok (.getfield 13, 3) := dk_180 0 13 (dk_at dksX3_closes_4 17 rfl rfl)
theorem dX3_closes_113 : decode cX3_closes 113 = .ok (.iconst 0, 1) := dk_3 (dk_at dksX3_closes_4 20 rfl rfl)
theorem dX3_closes_114 : decode cX3_closes 114 = .ok (.iaload, 1) := dk_46 (dk_at dksX3_closes_4 21 rfl rfl)
theorem dX3_closes_115 : decode cX3_closes 115 = .ok (.if_icmp .ge 14, 3) := dk_162 0 14 (dk_at dksX3_closes_5 0 rfl rfl)
theorem dX3_closes_118 : decode cX3_closes 118 = .ok (.aload_n 0, 1) := dk_42 (dk_at dksX3_closes_5 3 rfl rfl)
theorem dX3_closes_119 : decode cX3_closes 119 = .ok (.iload_n 2, 1) := dk_28 (dk_at dksX3_closes_5 4 rfl rfl)
theorem dX3_closes_120 : decode cX3_closes 120 = .ok (.invokevirtual 269, 3) := dk_182 1 13 (dk_at dksX3_closes_5 5 rfl rfl)
theorem dX3_closes_123 : decode cX3_closes 123 = .ok (.iinc 2 1, 3) := dk_132 2 1 (dk_at dksX3_closes_5 8 rfl rfl)
theorem dX3_closes_126 : decode cX3_closes 126 = .ok (.goto (-18), 3) := dk_167 255 238 (dk_at dksX3_closes_5 11 rfl rfl)
theorem dX3_closes_129 : decode cX3_closes 129 = .ok (.iload_n 1, 1) := dk_27 (dk_at dksX3_closes_5 14 rfl rfl)
theorem dX3_closes_130 : decode cX3_closes 130 = .ok (.ireturn, 1) := dk_172 (dk_at dksX3_closes_5 15 rfl rfl)
abbrev cX3_keeps : ByteArray := prog_39_method_7_code
def yX3_keeps : MethodName := ⟨RX3, "keeps", "()V"⟩
def dkwX3_keeps_3 : List UInt8 := [182, 0, 59, 42, 89, 180, 0, 56, 4, 96, 181, 0, 56, 177]
abbrev dktX3_keeps_3 : List UInt8 := dkwX3_keeps_3 ++ []
def dkwX3_keeps_2 : List UInt8 := [100, 181, 0, 56, 42, 42, 180, 0, 13, 3, 42, 180, 0, 20, 17, 2, 80, 42, 180, 0, 56, 104]
abbrev dktX3_keeps_2 : List UInt8 := dkwX3_keeps_2 ++ dktX3_keeps_3
def dkwX3_keeps_1 : List UInt8 := [27, 17, 2, 80, 100, 42, 180, 0, 20, 27, 46, 79, 132, 1, 1, 167, 255, 230, 42, 89, 180, 0, 56, 4]
abbrev dktX3_keeps_1 : List UInt8 := dkwX3_keeps_1 ++ dktX3_keeps_2
def dkwX3_keeps_0 : List UInt8 := [42, 180, 0, 56, 16, 8, 160, 0, 46, 17, 2, 80, 60, 27, 17, 18, 128, 162, 0, 25, 42, 180, 0, 20]
abbrev dktX3_keeps_0 : List UInt8 := dkwX3_keeps_0 ++ dktX3_keeps_1
theorem dksX3_keeps_0 : cX3_keeps.data.toList.drop 0 = dktX3_keeps_0 := by decide +kernel
theorem dksX3_keeps_1 : cX3_keeps.data.toList.drop 24 = dktX3_keeps_1 := dk_seg dksX3_keeps_0 24 rfl rfl
theorem dksX3_keeps_2 : cX3_keeps.data.toList.drop 48 = dktX3_keeps_2 := dk_seg dksX3_keeps_1 24 rfl rfl
theorem dksX3_keeps_3 : cX3_keeps.data.toList.drop 70 = dktX3_keeps_3 := dk_seg dksX3_keeps_2 22 rfl rfl
theorem dX3_keeps_0 : decode cX3_keeps 0 = .ok (.aload_n 0, 1) := dk_42 (dk_at dksX3_keeps_0 0 rfl rfl)
theorem dX3_keeps_1 : decode cX3_keeps 1 = .ok (.getfield 56, 3) := dk_180 0 56 (dk_at dksX3_keeps_0 1 rfl rfl)
theorem dX3_keeps_4 : decode cX3_keeps 4 = .ok (.bipush 8, 2) := dk_16 8 (dk_at dksX3_keeps_0 4 rfl rfl)
theorem dX3_keeps_6 : decode cX3_keeps 6 = .ok (.if_icmp .ne 46, 3) := dk_160 0 46 (dk_at dksX3_keeps_0 6 rfl rfl)
theorem dX3_keeps_9 : decode cX3_keeps 9 = .ok (.sipush 592, 3) := dk_17 2 80 (dk_at dksX3_keeps_0 9 rfl rfl)
theorem dX3_keeps_12 : decode cX3_keeps 12 = .ok (.istore_n 1, 1) := dk_60 (dk_at dksX3_keeps_0 12 rfl rfl)
theorem dX3_keeps_13 : decode cX3_keeps 13 = .ok (.iload_n 1, 1) := dk_27 (dk_at dksX3_keeps_0 13 rfl rfl)
theorem dX3_keeps_14 : decode cX3_keeps 14 = .ok (.sipush 4736, 3) := dk_17 18 128 (dk_at dksX3_keeps_0 14 rfl rfl)
theorem dX3_keeps_17 : decode cX3_keeps 17 = .ok (.if_icmp .ge 25, 3) := dk_162 0 25 (dk_at dksX3_keeps_0 17 rfl rfl)
theorem dX3_keeps_20 : decode cX3_keeps 20 = .ok (.aload_n 0, 1) := dk_42 (dk_at dksX3_keeps_0 20 rfl rfl)
theorem dX3_keeps_21 : decode cX3_keeps 21 = .ok (.getfield 20, 3) := dk_180 0 20 (dk_at dksX3_keeps_0 21 rfl rfl)
theorem dX3_keeps_24 : decode cX3_keeps 24 = .ok (.iload_n 1, 1) := dk_27 (dk_at dksX3_keeps_1 0 rfl rfl)
theorem dX3_keeps_25 : decode cX3_keeps 25 = .ok (.sipush 592, 3) := dk_17 2 80 (dk_at dksX3_keeps_1 1 rfl rfl)
theorem dX3_keeps_28 : decode cX3_keeps 28 = .ok (.isub, 1) := dk_100 (dk_at dksX3_keeps_1 4 rfl rfl)
theorem dX3_keeps_29 : decode cX3_keeps 29 = .ok (.aload_n 0, 1) := dk_42 (dk_at dksX3_keeps_1 5 rfl rfl)
theorem dX3_keeps_30 : decode cX3_keeps 30 = .ok (.getfield 20, 3) := dk_180 0 20 (dk_at dksX3_keeps_1 6 rfl rfl)
theorem dX3_keeps_33 : decode cX3_keeps 33 = .ok (.iload_n 1, 1) := dk_27 (dk_at dksX3_keeps_1 9 rfl rfl)
theorem dX3_keeps_34 : decode cX3_keeps 34 = .ok (.iaload, 1) := dk_46 (dk_at dksX3_keeps_1 10 rfl rfl)
theorem dX3_keeps_35 : decode cX3_keeps 35 = .ok (.iastore, 1) := dk_79 (dk_at dksX3_keeps_1 11 rfl rfl)
theorem dX3_keeps_36 : decode cX3_keeps 36 = .ok (.iinc 1 1, 3) := dk_132 1 1 (dk_at dksX3_keeps_1 12 rfl rfl)
theorem dX3_keeps_39 : decode cX3_keeps 39 = .ok (.goto (-26), 3) := dk_167 255 230 (dk_at dksX3_keeps_1 15 rfl rfl)
theorem dX3_keeps_42 : decode cX3_keeps 42 = .ok (.aload_n 0, 1) := dk_42 (dk_at dksX3_keeps_1 18 rfl rfl)
theorem dX3_keeps_43 : decode cX3_keeps 43 = .ok (.dup, 1) := dk_89 (dk_at dksX3_keeps_1 19 rfl rfl)
theorem dX3_keeps_44 : decode cX3_keeps 44 = .ok (.getfield 56, 3) := dk_180 0 56 (dk_at dksX3_keeps_1 20 rfl rfl)
theorem dX3_keeps_47 : decode cX3_keeps 47 = .ok (.iconst 1, 1) := dk_4 (dk_at dksX3_keeps_1 23 rfl rfl)
theorem dX3_keeps_48 : decode cX3_keeps 48 = .ok (.isub, 1) := dk_100 (dk_at dksX3_keeps_2 0 rfl rfl)
theorem dX3_keeps_49 : decode cX3_keeps 49 = .ok (.putfield 56, 3) := dk_181 0 56 (dk_at dksX3_keeps_2 1 rfl rfl)
theorem dX3_keeps_52 : decode cX3_keeps 52 = .ok (.aload_n 0, 1) := dk_42 (dk_at dksX3_keeps_2 4 rfl rfl)
theorem dX3_keeps_53 : decode cX3_keeps 53 = .ok (.aload_n 0, 1) := dk_42 (dk_at dksX3_keeps_2 5 rfl rfl)
theorem dX3_keeps_54 : decode cX3_keeps 54 = .ok (.getfield 13, 3) := dk_180 0 13 (dk_at dksX3_keeps_2 6 rfl rfl)
theorem dX3_keeps_57 : decode cX3_keeps 57 = .ok (.iconst 0, 1) := dk_3 (dk_at dksX3_keeps_2 9 rfl rfl)
theorem dX3_keeps_58 : decode cX3_keeps 58 = .ok (.aload_n 0, 1) := dk_42 (dk_at dksX3_keeps_2 10 rfl rfl)
theorem dX3_keeps_59 : decode cX3_keeps 59 = .ok (.getfield 20, 3) := dk_180 0 20 (dk_at dksX3_keeps_2 11 rfl rfl)
theorem dX3_keeps_62 : decode cX3_keeps 62 = .ok (.sipush 592, 3) := dk_17 2 80 (dk_at dksX3_keeps_2 14 rfl rfl)
theorem dX3_keeps_65 : decode cX3_keeps 65 = .ok (.aload_n 0, 1) := dk_42 (dk_at dksX3_keeps_2 17 rfl rfl)
theorem dX3_keeps_66 : decode cX3_keeps 66 = .ok (.getfield 56, 3) := dk_180 0 56 (dk_at dksX3_keeps_2 18 rfl rfl)
theorem dX3_keeps_69 : decode cX3_keeps 69 = .ok (.imul, 1) := dk_104 (dk_at dksX3_keeps_2 21 rfl rfl)
theorem dX3_keeps_70 : decode cX3_keeps 70 = .ok (.invokevirtual 59, 3) := dk_182 0 59 (dk_at dksX3_keeps_3 0 rfl rfl)
theorem dX3_keeps_73 : decode cX3_keeps 73 = .ok (.aload_n 0, 1) := dk_42 (dk_at dksX3_keeps_3 3 rfl rfl)
theorem dX3_keeps_74 : decode cX3_keeps 74 = .ok (.dup, 1) := dk_89 (dk_at dksX3_keeps_3 4 rfl rfl)
theorem dX3_keeps_75 : decode cX3_keeps 75 = .ok (.getfield 56, 3) := dk_180 0 56 (dk_at dksX3_keeps_3 5 rfl rfl)
theorem dX3_keeps_78 : decode cX3_keeps 78 = .ok (.iconst 1, 1) := dk_4 (dk_at dksX3_keeps_3 8 rfl rfl)
theorem dX3_keeps_79 : decode cX3_keeps 79 = .ok (.iadd, 1) := dk_96 (dk_at dksX3_keeps_3 9 rfl rfl)
theorem dX3_keeps_80 : decode cX3_keeps 80 = .ok (.putfield 56, 3) := dk_181 0 56 (dk_at dksX3_keeps_3 10 rfl rfl)
theorem dX3_keeps_83 : decode cX3_keeps 83 = .ok (.return_, 1) := dk_177 (dk_at dksX3_keeps_3 13 rfl rfl)
abbrev cX3_pass : ByteArray := prog_39_method_103_code
def yX3_pass : MethodName := ⟨RX3, "pass", "(I)I"⟩
def dkwX3_pass_3 : List UInt8 := [162, 0, 16, 28, 42, 182, 1, 133, 96, 61, 132, 3, 1, 167, 255, 241, 28, 172]
abbrev dktX3_pass_3 : List UInt8 := dkwX3_pass_3 ++ []
def dkwX3_pass_2 : List UInt8 := [167, 0, 4, 3, 5, 182, 1, 6, 153, 0, 5, 3, 172, 42, 182, 1, 130, 3, 61, 3, 62, 29, 27]
abbrev dktX3_pass_2 : List UInt8 := dkwX3_pass_2 ++ dktX3_pass_3
def dkwX3_pass_1 : List UInt8 := [182, 1, 6, 154, 0, 30, 42, 42, 180, 0, 13, 4, 46, 27, 96, 17, 39, 15, 164, 0, 7, 4]
abbrev dktX3_pass_1 : List UInt8 := dkwX3_pass_1 ++ dktX3_pass_2
def dkwX3_pass_0 : List UInt8 := [42, 3, 181, 0, 3, 42, 27, 133, 10, 20, 1, 128, 184, 0, 167, 154, 0, 7, 4, 167, 0, 4, 3, 4]
abbrev dktX3_pass_0 : List UInt8 := dkwX3_pass_0 ++ dktX3_pass_1
theorem dksX3_pass_0 : cX3_pass.data.toList.drop 0 = dktX3_pass_0 := by decide +kernel
theorem dksX3_pass_1 : cX3_pass.data.toList.drop 24 = dktX3_pass_1 := dk_seg dksX3_pass_0 24 rfl rfl
theorem dksX3_pass_2 : cX3_pass.data.toList.drop 46 = dktX3_pass_2 := dk_seg dksX3_pass_1 22 rfl rfl
theorem dksX3_pass_3 : cX3_pass.data.toList.drop 69 = dktX3_pass_3 := dk_seg dksX3_pass_2 23 rfl rfl
theorem dX3_pass_0 : decode cX3_pass 0 = .ok (.aload_n 0, 1) := dk_42 (dk_at dksX3_pass_0 0 rfl rfl)
theorem dX3_pass_1 : decode cX3_pass 1 = .ok (.iconst 0, 1) := dk_3 (dk_at dksX3_pass_0 1 rfl rfl)
theorem dX3_pass_2 : decode cX3_pass 2 = .ok (.putfield 3, 3) := dk_181 0 3 (dk_at dksX3_pass_0 2 rfl rfl)
theorem dX3_pass_5 : decode cX3_pass 5 = .ok (.aload_n 0, 1) := dk_42 (dk_at dksX3_pass_0 5 rfl rfl)
theorem dX3_pass_6 : decode cX3_pass 6 = .ok (.iload_n 1, 1) := dk_27 (dk_at dksX3_pass_0 6 rfl rfl)
theorem dX3_pass_7 : decode cX3_pass 7 = .ok (.i2l, 1) := dk_133 (dk_at dksX3_pass_0 7 rfl rfl)
theorem dX3_pass_8 : decode cX3_pass 8 = .ok (.lconst 1, 1) := dk_10 (dk_at dksX3_pass_0 8 rfl rfl)
theorem dX3_pass_9 : decode cX3_pass 9 = .ok (.ldc2_w 384, 3) := dk_20 1 128 (dk_at dksX3_pass_0 9 rfl rfl)
theorem dX3_pass_12 : decode cX3_pass 12 = .ok (.invokestatic 167, 3) := dk_184 0 167 (dk_at dksX3_pass_0 12 rfl rfl)
theorem dX3_pass_15 : decode cX3_pass 15 = .ok (.ifCond .ne 7, 3) := dk_154 0 7 (dk_at dksX3_pass_0 15 rfl rfl)
theorem dX3_pass_18 : decode cX3_pass 18 = .ok (.iconst 1, 1) := dk_4 (dk_at dksX3_pass_0 18 rfl rfl)
theorem dX3_pass_19 : decode cX3_pass 19 = .ok (.goto 4, 3) := dk_167 0 4 (dk_at dksX3_pass_0 19 rfl rfl)
theorem dX3_pass_22 : decode cX3_pass 22 = .ok (.iconst 0, 1) := dk_3 (dk_at dksX3_pass_0 22 rfl rfl)
theorem dX3_pass_23 : decode cX3_pass 23 = .ok (.iconst 1, 1) := dk_4 (dk_at dksX3_pass_0 23 rfl rfl)
theorem dX3_pass_24 : decode cX3_pass 24 = .ok (.invokevirtual 262, 3) := dk_182 1 6 (dk_at dksX3_pass_1 0 rfl rfl)
theorem dX3_pass_27 : decode cX3_pass 27 = .ok (.ifCond .ne 30, 3) := dk_154 0 30 (dk_at dksX3_pass_1 3 rfl rfl)
theorem dX3_pass_30 : decode cX3_pass 30 = .ok (.aload_n 0, 1) := dk_42 (dk_at dksX3_pass_1 6 rfl rfl)
theorem dX3_pass_31 : decode cX3_pass 31 = .ok (.aload_n 0, 1) := dk_42 (dk_at dksX3_pass_1 7 rfl rfl)
theorem dX3_pass_32 : decode cX3_pass 32 = .ok (.getfield 13, 3) := dk_180 0 13 (dk_at dksX3_pass_1 8 rfl rfl)
theorem dX3_pass_35 : decode cX3_pass 35 = .ok (.iconst 1, 1) := dk_4 (dk_at dksX3_pass_1 11 rfl rfl)
theorem dX3_pass_36 : decode cX3_pass 36 = .ok (.iaload, 1) := dk_46 (dk_at dksX3_pass_1 12 rfl rfl)
theorem dX3_pass_37 : decode cX3_pass 37 = .ok (.iload_n 1, 1) := dk_27 (dk_at dksX3_pass_1 13 rfl rfl)
theorem dX3_pass_38 : decode cX3_pass 38 = .ok (.iadd, 1) := dk_96 (dk_at dksX3_pass_1 14 rfl rfl)
theorem dX3_pass_39 : decode cX3_pass 39 = .ok (.sipush 9999, 3) := dk_17 39 15 (dk_at dksX3_pass_1 15 rfl rfl)
theorem dX3_pass_42 : decode cX3_pass 42 = .ok (.if_icmp .le 7, 3) := dk_164 0 7 (dk_at dksX3_pass_1 18 rfl rfl)
theorem dX3_pass_45 : decode cX3_pass 45 = .ok (.iconst 1, 1) := dk_4 (dk_at dksX3_pass_1 21 rfl rfl)
theorem dX3_pass_46 : decode cX3_pass 46 = .ok (.goto 4, 3) := dk_167 0 4 (dk_at dksX3_pass_2 0 rfl rfl)
theorem dX3_pass_49 : decode cX3_pass 49 = .ok (.iconst 0, 1) := dk_3 (dk_at dksX3_pass_2 3 rfl rfl)
theorem dX3_pass_50 : decode cX3_pass 50 = .ok (.iconst 2, 1) := dk_5 (dk_at dksX3_pass_2 4 rfl rfl)
theorem dX3_pass_51 : decode cX3_pass 51 = .ok (.invokevirtual 262, 3) := dk_182 1 6 (dk_at dksX3_pass_2 5 rfl rfl)
theorem dX3_pass_54 : decode cX3_pass 54 = .ok (.ifCond .eq 5, 3) := dk_153 0 5 (dk_at dksX3_pass_2 8 rfl rfl)
theorem dX3_pass_57 : decode cX3_pass 57 = .ok (.iconst 0, 1) := dk_3 (dk_at dksX3_pass_2 11 rfl rfl)
theorem dX3_pass_58 : decode cX3_pass 58 = .ok (.ireturn, 1) := dk_172 (dk_at dksX3_pass_2 12 rfl rfl)
theorem dX3_pass_59 : decode cX3_pass 59 = .ok (.aload_n 0, 1) := dk_42 (dk_at dksX3_pass_2 13 rfl rfl)
theorem dX3_pass_60 : decode cX3_pass 60 = .ok (.invokevirtual 386, 3) := dk_182 1 130 (dk_at dksX3_pass_2 14 rfl rfl)
theorem dX3_pass_63 : decode cX3_pass 63 = .ok (.iconst 0, 1) := dk_3 (dk_at dksX3_pass_2 17 rfl rfl)
theorem dX3_pass_64 : decode cX3_pass 64 = .ok (.istore_n 2, 1) := dk_61 (dk_at dksX3_pass_2 18 rfl rfl)
theorem dX3_pass_65 : decode cX3_pass 65 = .ok (.iconst 0, 1) := dk_3 (dk_at dksX3_pass_2 19 rfl rfl)
theorem dX3_pass_66 : decode cX3_pass 66 = .ok (.istore_n 3, 1) := dk_62 (dk_at dksX3_pass_2 20 rfl rfl)
theorem dX3_pass_67 : decode cX3_pass 67 = .ok (.iload_n 3, 1) := dk_29 (dk_at dksX3_pass_2 21 rfl rfl)
theorem dX3_pass_68 : decode cX3_pass 68 = .ok (.iload_n 1, 1) := dk_27 (dk_at dksX3_pass_2 22 rfl rfl)
theorem dX3_pass_69 : decode cX3_pass 69 = .ok (.if_icmp .ge 16, 3) := dk_162 0 16 (dk_at dksX3_pass_3 0 rfl rfl)
theorem dX3_pass_72 : decode cX3_pass 72 = .ok (.iload_n 2, 1) := dk_28 (dk_at dksX3_pass_3 3 rfl rfl)
theorem dX3_pass_73 : decode cX3_pass 73 = .ok (.aload_n 0, 1) := dk_42 (dk_at dksX3_pass_3 4 rfl rfl)
theorem dX3_pass_74 : decode cX3_pass 74 = .ok (.invokevirtual 389, 3) := dk_182 1 133 (dk_at dksX3_pass_3 5 rfl rfl)
theorem dX3_pass_77 : decode cX3_pass 77 = .ok (.iadd, 1) := dk_96 (dk_at dksX3_pass_3 8 rfl rfl)
theorem dX3_pass_78 : decode cX3_pass 78 = .ok (.istore_n 2, 1) := dk_61 (dk_at dksX3_pass_3 9 rfl rfl)
theorem dX3_pass_79 : decode cX3_pass 79 = .ok (.iinc 3 1, 3) := dk_132 3 1 (dk_at dksX3_pass_3 10 rfl rfl)
theorem dX3_pass_82 : decode cX3_pass 82 = .ok (.goto (-15), 3) := dk_167 255 241 (dk_at dksX3_pass_3 13 rfl rfl)
theorem dX3_pass_85 : decode cX3_pass 85 = .ok (.iload_n 2, 1) := dk_28 (dk_at dksX3_pass_3 16 rfl rfl)
theorem dX3_pass_86 : decode cX3_pass 86 = .ok (.ireturn, 1) := dk_172 (dk_at dksX3_pass_3 17 rfl rfl)
abbrev cX3_take : ByteArray := prog_39_method_104_code
def yX3_take : MethodName := ⟨RX3, "take", "(III)I"⟩
def dkwX3_take_3 : List UInt8 := [42, 27, 28, 29, 182, 1, 31, 42, 27, 182, 1, 28, 172]
abbrev dktX3_take_3 : List UInt8 := dkwX3_take_3 ++ []
def dkwX3_take_2 : List UInt8 := [182, 1, 28, 164, 0, 7, 4, 167, 0, 4, 3, 6, 182, 1, 6, 153, 0, 5, 3, 172, 42, 182, 1, 130]
abbrev dktX3_take_2 : List UInt8 := dkwX3_take_2 ++ dktX3_take_3
def dkwX3_take_1 : List UInt8 := [3, 5, 182, 1, 6, 154, 0, 35, 42, 29, 42, 27, 28, 182, 0, 74, 163, 0, 12, 29, 42, 27]
abbrev dktX3_take_1 : List UInt8 := dkwX3_take_1 ++ dktX3_take_2
def dkwX3_take_0 : List UInt8 := [42, 3, 181, 0, 3, 42, 27, 28, 182, 1, 66, 154, 0, 53, 42, 29, 4, 162, 0, 7, 4, 167, 0, 4]
abbrev dktX3_take_0 : List UInt8 := dkwX3_take_0 ++ dktX3_take_1
theorem dksX3_take_0 : cX3_take.data.toList.drop 0 = dktX3_take_0 := by decide +kernel
theorem dksX3_take_1 : cX3_take.data.toList.drop 24 = dktX3_take_1 := dk_seg dksX3_take_0 24 rfl rfl
theorem dksX3_take_2 : cX3_take.data.toList.drop 46 = dktX3_take_2 := dk_seg dksX3_take_1 22 rfl rfl
theorem dksX3_take_3 : cX3_take.data.toList.drop 70 = dktX3_take_3 := dk_seg dksX3_take_2 24 rfl rfl
theorem dX3_take_0 : decode cX3_take 0 = .ok (.aload_n 0, 1) := dk_42 (dk_at dksX3_take_0 0 rfl rfl)
theorem dX3_take_1 : decode cX3_take 1 = .ok (.iconst 0, 1) := dk_3 (dk_at dksX3_take_0 1 rfl rfl)
theorem dX3_take_2 : decode cX3_take 2 = .ok (.putfield 3, 3) := dk_181 0 3 (dk_at dksX3_take_0 2 rfl rfl)
theorem dX3_take_5 : decode cX3_take 5 = .ok (.aload_n 0, 1) := dk_42 (dk_at dksX3_take_0 5 rfl rfl)
theorem dX3_take_6 : decode cX3_take 6 = .ok (.iload_n 1, 1) := dk_27 (dk_at dksX3_take_0 6 rfl rfl)
theorem dX3_take_7 : decode cX3_take 7 = .ok (.iload_n 2, 1) := dk_28 (dk_at dksX3_take_0 7 rfl rfl)
theorem dX3_take_8 : decode cX3_take 8 = .ok (.invokevirtual 322, 3) := dk_182 1 66 (dk_at dksX3_take_0 8 rfl rfl)
theorem dX3_take_11 : decode cX3_take 11 = .ok (.ifCond .ne 53, 3) := dk_154 0 53 (dk_at dksX3_take_0 11 rfl rfl)
theorem dX3_take_14 : decode cX3_take 14 = .ok (.aload_n 0, 1) := dk_42 (dk_at dksX3_take_0 14 rfl rfl)
theorem dX3_take_15 : decode cX3_take 15 = .ok (.iload_n 3, 1) := dk_29 (dk_at dksX3_take_0 15 rfl rfl)
theorem dX3_take_16 : decode cX3_take 16 = .ok (.iconst 1, 1) := dk_4 (dk_at dksX3_take_0 16 rfl rfl)
theorem dX3_take_17 : decode cX3_take 17 = .ok (.if_icmp .ge 7, 3) := dk_162 0 7 (dk_at dksX3_take_0 17 rfl rfl)
theorem dX3_take_20 : decode cX3_take 20 = .ok (.iconst 1, 1) := dk_4 (dk_at dksX3_take_0 20 rfl rfl)
theorem dX3_take_21 : decode cX3_take 21 = .ok (.goto 4, 3) := dk_167 0 4 (dk_at dksX3_take_0 21 rfl rfl)
theorem dX3_take_24 : decode cX3_take 24 = .ok (.iconst 0, 1) := dk_3 (dk_at dksX3_take_1 0 rfl rfl)
theorem dX3_take_25 : decode cX3_take 25 = .ok (.iconst 2, 1) := dk_5 (dk_at dksX3_take_1 1 rfl rfl)
theorem dX3_take_26 : decode cX3_take 26 = .ok (.invokevirtual 262, 3) := dk_182 1 6 (dk_at dksX3_take_1 2 rfl rfl)
theorem dX3_take_29 : decode cX3_take 29 = .ok (.ifCond .ne 35, 3) := dk_154 0 35 (dk_at dksX3_take_1 5 rfl rfl)
theorem dX3_take_32 : decode cX3_take 32 = .ok (.aload_n 0, 1) := dk_42 (dk_at dksX3_take_1 8 rfl rfl)
theorem dX3_take_33 : decode cX3_take 33 = .ok (.iload_n 3, 1) := dk_29 (dk_at dksX3_take_1 9 rfl rfl)
theorem dX3_take_34 : decode cX3_take 34 = .ok (.aload_n 0, 1) := dk_42 (dk_at dksX3_take_1 10 rfl rfl)
theorem dX3_take_35 : decode cX3_take 35 = .ok (.iload_n 1, 1) := dk_27 (dk_at dksX3_take_1 11 rfl rfl)
theorem dX3_take_36 : decode cX3_take 36 = .ok (.iload_n 2, 1) := dk_28 (dk_at dksX3_take_1 12 rfl rfl)
theorem dX3_take_37 : decode cX3_take 37 = .ok (.invokevirtual 74, 3) := dk_182 0 74 (dk_at dksX3_take_1 13 rfl rfl)
theorem dX3_take_40 : decode cX3_take 40 = .ok (.if_icmp .gt 12, 3) := dk_163 0 12 (dk_at dksX3_take_1 16 rfl rfl)
theorem dX3_take_43 : decode cX3_take 43 = .ok (.iload_n 3, 1) := dk_29 (dk_at dksX3_take_1 19 rfl rfl)
theorem dX3_take_44 : decode cX3_take 44 = .ok (.aload_n 0, 1) := dk_42 (dk_at dksX3_take_1 20 rfl rfl)
theorem dX3_take_45 : decode cX3_take 45 = .ok (.iload_n 1, 1) := dk_27 (dk_at dksX3_take_1 21 rfl rfl)
theorem dX3_take_46 : decode cX3_take 46 = .ok (.invokevirtual 284, 3) := dk_182 1 28 (dk_at dksX3_take_2 0 rfl rfl)
theorem dX3_take_49 : decode cX3_take 49 = .ok (.if_icmp .le 7, 3) := dk_164 0 7 (dk_at dksX3_take_2 3 rfl rfl)
theorem dX3_take_52 : decode cX3_take 52 = .ok (.iconst 1, 1) := dk_4 (dk_at dksX3_take_2 6 rfl rfl)
theorem dX3_take_53 : decode cX3_take 53 = .ok (.goto 4, 3) := dk_167 0 4 (dk_at dksX3_take_2 7 rfl rfl)
theorem dX3_take_56 : decode cX3_take 56 = .ok (.iconst 0, 1) := dk_3 (dk_at dksX3_take_2 10 rfl rfl)
theorem dX3_take_57 : decode cX3_take 57 = .ok (.iconst 3, 1) := dk_6 (dk_at dksX3_take_2 11 rfl rfl)
theorem dX3_take_58 : decode cX3_take 58 = .ok (.invokevirtual 262, 3) := dk_182 1 6 (dk_at dksX3_take_2 12 rfl rfl)
theorem dX3_take_61 : decode cX3_take 61 = .ok (.ifCond .eq 5, 3) := dk_153 0 5 (dk_at dksX3_take_2 15 rfl rfl)
theorem dX3_take_64 : decode cX3_take 64 = .ok (.iconst 0, 1) := dk_3 (dk_at dksX3_take_2 18 rfl rfl)
theorem dX3_take_65 : decode cX3_take 65 = .ok (.ireturn, 1) := dk_172 (dk_at dksX3_take_2 19 rfl rfl)
theorem dX3_take_66 : decode cX3_take 66 = .ok (.aload_n 0, 1) := dk_42 (dk_at dksX3_take_2 20 rfl rfl)
theorem dX3_take_67 : decode cX3_take 67 = .ok (.invokevirtual 386, 3) := dk_182 1 130 (dk_at dksX3_take_2 21 rfl rfl)
theorem dX3_take_70 : decode cX3_take 70 = .ok (.aload_n 0, 1) := dk_42 (dk_at dksX3_take_3 0 rfl rfl)
theorem dX3_take_71 : decode cX3_take 71 = .ok (.iload_n 1, 1) := dk_27 (dk_at dksX3_take_3 1 rfl rfl)
theorem dX3_take_72 : decode cX3_take 72 = .ok (.iload_n 2, 1) := dk_28 (dk_at dksX3_take_3 2 rfl rfl)
theorem dX3_take_73 : decode cX3_take 73 = .ok (.iload_n 3, 1) := dk_29 (dk_at dksX3_take_3 3 rfl rfl)
theorem dX3_take_74 : decode cX3_take 74 = .ok (.invokevirtual 287, 3) := dk_182 1 31 (dk_at dksX3_take_3 4 rfl rfl)
theorem dX3_take_77 : decode cX3_take 77 = .ok (.aload_n 0, 1) := dk_42 (dk_at dksX3_take_3 7 rfl rfl)
theorem dX3_take_78 : decode cX3_take 78 = .ok (.iload_n 1, 1) := dk_27 (dk_at dksX3_take_3 8 rfl rfl)
theorem dX3_take_79 : decode cX3_take 79 = .ok (.invokevirtual 284, 3) := dk_182 1 28 (dk_at dksX3_take_3 9 rfl rfl)
theorem dX3_take_82 : decode cX3_take 82 = .ok (.ireturn, 1) := dk_172 (dk_at dksX3_take_3 12 rfl rfl)
abbrev cX3_add : ByteArray := prog_39_method_105_code
def yX3_add : MethodName := ⟨RX3, "add", "(III)I"⟩
def dkwX3_add_3 : List UInt8 := [29, 182, 1, 25, 42, 27, 182, 0, 104, 172]
abbrev dktX3_add_3 : List UInt8 := dkwX3_add_3 ++ []
def dkwX3_add_2 : List UInt8 := [158, 0, 7, 4, 167, 0, 4, 3, 6, 182, 1, 6, 153, 0, 5, 3, 172, 42, 182, 1, 130, 42, 27, 28]
abbrev dktX3_add_2 : List UInt8 := dkwX3_add_2 ++ dktX3_add_3
def dkwX3_add_1 : List UInt8 := [3, 5, 182, 1, 6, 154, 0, 33, 42, 42, 27, 28, 182, 0, 74, 133, 29, 133, 97, 20, 1, 44, 148]
abbrev dktX3_add_1 : List UInt8 := dkwX3_add_1 ++ dktX3_add_2
def dkwX3_add_0 : List UInt8 := [42, 3, 181, 0, 3, 42, 27, 28, 182, 1, 66, 154, 0, 51, 42, 29, 4, 162, 0, 7, 4, 167, 0, 4]
abbrev dktX3_add_0 : List UInt8 := dkwX3_add_0 ++ dktX3_add_1
theorem dksX3_add_0 : cX3_add.data.toList.drop 0 = dktX3_add_0 := by decide +kernel
theorem dksX3_add_1 : cX3_add.data.toList.drop 24 = dktX3_add_1 := dk_seg dksX3_add_0 24 rfl rfl
theorem dksX3_add_2 : cX3_add.data.toList.drop 47 = dktX3_add_2 := dk_seg dksX3_add_1 23 rfl rfl
theorem dksX3_add_3 : cX3_add.data.toList.drop 71 = dktX3_add_3 := dk_seg dksX3_add_2 24 rfl rfl
theorem dX3_add_0 : decode cX3_add 0 = .ok (.aload_n 0, 1) := dk_42 (dk_at dksX3_add_0 0 rfl rfl)
theorem dX3_add_1 : decode cX3_add 1 = .ok (.iconst 0, 1) := dk_3 (dk_at dksX3_add_0 1 rfl rfl)
theorem dX3_add_2 : decode cX3_add 2 = .ok (.putfield 3, 3) := dk_181 0 3 (dk_at dksX3_add_0 2 rfl rfl)
theorem dX3_add_5 : decode cX3_add 5 = .ok (.aload_n 0, 1) := dk_42 (dk_at dksX3_add_0 5 rfl rfl)
theorem dX3_add_6 : decode cX3_add 6 = .ok (.iload_n 1, 1) := dk_27 (dk_at dksX3_add_0 6 rfl rfl)
theorem dX3_add_7 : decode cX3_add 7 = .ok (.iload_n 2, 1) := dk_28 (dk_at dksX3_add_0 7 rfl rfl)
theorem dX3_add_8 : decode cX3_add 8 = .ok (.invokevirtual 322, 3) := dk_182 1 66 (dk_at dksX3_add_0 8 rfl rfl)
theorem dX3_add_11 : decode cX3_add 11 = .ok (.ifCond .ne 51, 3) := dk_154 0 51 (dk_at dksX3_add_0 11 rfl rfl)
theorem dX3_add_14 : decode cX3_add 14 = .ok (.aload_n 0, 1) := dk_42 (dk_at dksX3_add_0 14 rfl rfl)
theorem dX3_add_15 : decode cX3_add 15 = .ok (.iload_n 3, 1) := dk_29 (dk_at dksX3_add_0 15 rfl rfl)
theorem dX3_add_16 : decode cX3_add 16 = .ok (.iconst 1, 1) := dk_4 (dk_at dksX3_add_0 16 rfl rfl)
theorem dX3_add_17 : decode cX3_add 17 = .ok (.if_icmp .ge 7, 3) := dk_162 0 7 (dk_at dksX3_add_0 17 rfl rfl)
theorem dX3_add_20 : decode cX3_add 20 = .ok (.iconst 1, 1) := dk_4 (dk_at dksX3_add_0 20 rfl rfl)
theorem dX3_add_21 : decode cX3_add 21 = .ok (.goto 4, 3) := dk_167 0 4 (dk_at dksX3_add_0 21 rfl rfl)
theorem dX3_add_24 : decode cX3_add 24 = .ok (.iconst 0, 1) := dk_3 (dk_at dksX3_add_1 0 rfl rfl)
theorem dX3_add_25 : decode cX3_add 25 = .ok (.iconst 2, 1) := dk_5 (dk_at dksX3_add_1 1 rfl rfl)
theorem dX3_add_26 : decode cX3_add 26 = .ok (.invokevirtual 262, 3) := dk_182 1 6 (dk_at dksX3_add_1 2 rfl rfl)
theorem dX3_add_29 : decode cX3_add 29 = .ok (.ifCond .ne 33, 3) := dk_154 0 33 (dk_at dksX3_add_1 5 rfl rfl)
theorem dX3_add_32 : decode cX3_add 32 = .ok (.aload_n 0, 1) := dk_42 (dk_at dksX3_add_1 8 rfl rfl)
theorem dX3_add_33 : decode cX3_add 33 = .ok (.aload_n 0, 1) := dk_42 (dk_at dksX3_add_1 9 rfl rfl)
theorem dX3_add_34 : decode cX3_add 34 = .ok (.iload_n 1, 1) := dk_27 (dk_at dksX3_add_1 10 rfl rfl)
theorem dX3_add_35 : decode cX3_add 35 = .ok (.iload_n 2, 1) := dk_28 (dk_at dksX3_add_1 11 rfl rfl)
theorem dX3_add_36 : decode cX3_add 36 = .ok (.invokevirtual 74, 3) := dk_182 0 74 (dk_at dksX3_add_1 12 rfl rfl)
theorem dX3_add_39 : decode cX3_add 39 = .ok (.i2l, 1) := dk_133 (dk_at dksX3_add_1 15 rfl rfl)
theorem dX3_add_40 : decode cX3_add 40 = .ok (.iload_n 3, 1) := dk_29 (dk_at dksX3_add_1 16 rfl rfl)
theorem dX3_add_41 : decode cX3_add 41 = .ok (.i2l, 1) := dk_133 (dk_at dksX3_add_1 17 rfl rfl)
theorem dX3_add_42 : decode cX3_add 42 = .ok (.ladd, 1) := dk_97 (dk_at dksX3_add_1 18 rfl rfl)
theorem dX3_add_43 : decode cX3_add 43 = .ok (.ldc2_w 300, 3) := dk_20 1 44 (dk_at dksX3_add_1 19 rfl rfl)
theorem dX3_add_46 : decode cX3_add 46 = .ok (.lcmp, 1) := dk_148 (dk_at dksX3_add_1 22 rfl rfl)
theorem dX3_add_47 : decode cX3_add 47 = .ok (.ifCond .le 7, 3) := dk_158 0 7 (dk_at dksX3_add_2 0 rfl rfl)
theorem dX3_add_50 : decode cX3_add 50 = .ok (.iconst 1, 1) := dk_4 (dk_at dksX3_add_2 3 rfl rfl)
theorem dX3_add_51 : decode cX3_add 51 = .ok (.goto 4, 3) := dk_167 0 4 (dk_at dksX3_add_2 4 rfl rfl)
theorem dX3_add_54 : decode cX3_add 54 = .ok (.iconst 0, 1) := dk_3 (dk_at dksX3_add_2 7 rfl rfl)
theorem dX3_add_55 : decode cX3_add 55 = .ok (.iconst 3, 1) := dk_6 (dk_at dksX3_add_2 8 rfl rfl)
theorem dX3_add_56 : decode cX3_add 56 = .ok (.invokevirtual 262, 3) := dk_182 1 6 (dk_at dksX3_add_2 9 rfl rfl)
theorem dX3_add_59 : decode cX3_add 59 = .ok (.ifCond .eq 5, 3) := dk_153 0 5 (dk_at dksX3_add_2 12 rfl rfl)
theorem dX3_add_62 : decode cX3_add 62 = .ok (.iconst 0, 1) := dk_3 (dk_at dksX3_add_2 15 rfl rfl)
theorem dX3_add_63 : decode cX3_add 63 = .ok (.ireturn, 1) := dk_172 (dk_at dksX3_add_2 16 rfl rfl)
theorem dX3_add_64 : decode cX3_add 64 = .ok (.aload_n 0, 1) := dk_42 (dk_at dksX3_add_2 17 rfl rfl)
theorem dX3_add_65 : decode cX3_add 65 = .ok (.invokevirtual 386, 3) := dk_182 1 130 (dk_at dksX3_add_2 18 rfl rfl)
theorem dX3_add_68 : decode cX3_add 68 = .ok (.aload_n 0, 1) := dk_42 (dk_at dksX3_add_2 21 rfl rfl)
theorem dX3_add_69 : decode cX3_add 69 = .ok (.iload_n 1, 1) := dk_27 (dk_at dksX3_add_2 22 rfl rfl)
theorem dX3_add_70 : decode cX3_add 70 = .ok (.iload_n 2, 1) := dk_28 (dk_at dksX3_add_2 23 rfl rfl)
theorem dX3_add_71 : decode cX3_add 71 = .ok (.iload_n 3, 1) := dk_29 (dk_at dksX3_add_3 0 rfl rfl)
theorem dX3_add_72 : decode cX3_add 72 = .ok (.invokevirtual 281, 3) := dk_182 1 25 (dk_at dksX3_add_3 1 rfl rfl)
theorem dX3_add_75 : decode cX3_add 75 = .ok (.aload_n 0, 1) := dk_42 (dk_at dksX3_add_3 4 rfl rfl)
theorem dX3_add_76 : decode cX3_add 76 = .ok (.iload_n 1, 1) := dk_27 (dk_at dksX3_add_3 5 rfl rfl)
theorem dX3_add_77 : decode cX3_add 77 = .ok (.invokevirtual 104, 3) := dk_182 0 104 (dk_at dksX3_add_3 6 rfl rfl)
theorem dX3_add_80 : decode cX3_add 80 = .ok (.ireturn, 1) := dk_172 (dk_at dksX3_add_3 9 rfl rfl)
abbrev cX3_sick : ByteArray := prog_39_method_106_code
def yX3_sick : MethodName := ⟨RX3, "sick", "(IIII)I"⟩
def dkwX3_sick_2 : List UInt8 := [3, 5, 182, 1, 6, 153, 0, 5, 3, 172, 42, 182, 1, 130, 42, 27, 28, 29, 21, 4, 182, 1, 34, 172]
abbrev dktX3_sick_2 : List UInt8 := dkwX3_sick_2 ++ []
def dkwX3_sick_1 : List UInt8 := [133, 184, 0, 167, 153, 0, 16, 21, 4, 133, 9, 20, 1, 20, 184, 0, 167, 154, 0, 7, 4, 167, 0, 4]
abbrev dktX3_sick_1 : List UInt8 := dkwX3_sick_1 ++ dktX3_sick_2
def dkwX3_sick_0 : List UInt8 := [42, 3, 181, 0, 3, 42, 27, 28, 182, 1, 66, 154, 0, 45, 42, 29, 133, 28, 133, 42, 27, 182, 0, 70]
abbrev dktX3_sick_0 : List UInt8 := dkwX3_sick_0 ++ dktX3_sick_1
theorem dksX3_sick_0 : cX3_sick.data.toList.drop 0 = dktX3_sick_0 := by decide +kernel
theorem dksX3_sick_1 : cX3_sick.data.toList.drop 24 = dktX3_sick_1 := dk_seg dksX3_sick_0 24 rfl rfl
theorem dksX3_sick_2 : cX3_sick.data.toList.drop 48 = dktX3_sick_2 := dk_seg dksX3_sick_1 24 rfl rfl
theorem dX3_sick_0 : decode cX3_sick 0 = .ok (.aload_n 0, 1) := dk_42 (dk_at dksX3_sick_0 0 rfl rfl)
theorem dX3_sick_1 : decode cX3_sick 1 = .ok (.iconst 0, 1) := dk_3 (dk_at dksX3_sick_0 1 rfl rfl)
theorem dX3_sick_2 : decode cX3_sick 2 = .ok (.putfield 3, 3) := dk_181 0 3 (dk_at dksX3_sick_0 2 rfl rfl)
theorem dX3_sick_5 : decode cX3_sick 5 = .ok (.aload_n 0, 1) := dk_42 (dk_at dksX3_sick_0 5 rfl rfl)
theorem dX3_sick_6 : decode cX3_sick 6 = .ok (.iload_n 1, 1) := dk_27 (dk_at dksX3_sick_0 6 rfl rfl)
theorem dX3_sick_7 : decode cX3_sick 7 = .ok (.iload_n 2, 1) := dk_28 (dk_at dksX3_sick_0 7 rfl rfl)
theorem dX3_sick_8 : decode cX3_sick 8 = .ok (.invokevirtual 322, 3) := dk_182 1 66 (dk_at dksX3_sick_0 8 rfl rfl)
theorem dX3_sick_11 : decode cX3_sick 11 = .ok (.ifCond .ne 45, 3) := dk_154 0 45 (dk_at dksX3_sick_0 11 rfl rfl)
theorem dX3_sick_14 : decode cX3_sick 14 = .ok (.aload_n 0, 1) := dk_42 (dk_at dksX3_sick_0 14 rfl rfl)
theorem dX3_sick_15 : decode cX3_sick 15 = .ok (.iload_n 3, 1) := dk_29 (dk_at dksX3_sick_0 15 rfl rfl)
theorem dX3_sick_16 : decode cX3_sick 16 = .ok (.i2l, 1) := dk_133 (dk_at dksX3_sick_0 16 rfl rfl)
theorem dX3_sick_17 : decode cX3_sick 17 = .ok (.iload_n 2, 1) := dk_28 (dk_at dksX3_sick_0 17 rfl rfl)
theorem dX3_sick_18 : decode cX3_sick 18 = .ok (.i2l, 1) := dk_133 (dk_at dksX3_sick_0 18 rfl rfl)
theorem dX3_sick_19 : decode cX3_sick 19 = .ok (.aload_n 0, 1) := dk_42 (dk_at dksX3_sick_0 19 rfl rfl)
theorem dX3_sick_20 : decode cX3_sick 20 = .ok (.iload_n 1, 1) := dk_27 (dk_at dksX3_sick_0 20 rfl rfl)
theorem dX3_sick_21 : decode cX3_sick 21 = .ok (.invokevirtual 70, 3) := dk_182 0 70 (dk_at dksX3_sick_0 21 rfl rfl)
theorem dX3_sick_24 : decode cX3_sick 24 = .ok (.i2l, 1) := dk_133 (dk_at dksX3_sick_1 0 rfl rfl)
theorem dX3_sick_25 : decode cX3_sick 25 = .ok (.invokestatic 167, 3) := dk_184 0 167 (dk_at dksX3_sick_1 1 rfl rfl)
theorem dX3_sick_28 : decode cX3_sick 28 = .ok (.ifCond .eq 16, 3) := dk_153 0 16 (dk_at dksX3_sick_1 4 rfl rfl)
theorem dX3_sick_31 : decode cX3_sick 31 = .ok (.iload 4, 2) := dk_21 4 (dk_at dksX3_sick_1 7 rfl rfl)
theorem dX3_sick_33 : decode cX3_sick 33 = .ok (.i2l, 1) := dk_133 (dk_at dksX3_sick_1 9 rfl rfl)
theorem dX3_sick_34 : decode cX3_sick 34 = .ok (.lconst 0, 1) := dk_9 (dk_at dksX3_sick_1 10 rfl rfl)
theorem dX3_sick_35 : decode cX3_sick 35 = .ok (.ldc2_w 276, 3) := dk_20 1 20 (dk_at dksX3_sick_1 11 rfl rfl)
theorem dX3_sick_38 : decode cX3_sick 38 = .ok (.invokestatic 167, 3) := dk_184 0 167 (dk_at dksX3_sick_1 14 rfl rfl)
theorem dX3_sick_41 : decode cX3_sick 41 = .ok (.ifCond .ne 7, 3) := dk_154 0 7 (dk_at dksX3_sick_1 17 rfl rfl)
theorem dX3_sick_44 : decode cX3_sick 44 = .ok (.iconst 1, 1) := dk_4 (dk_at dksX3_sick_1 20 rfl rfl)
theorem dX3_sick_45 : decode cX3_sick 45 = .ok (.goto 4, 3) := dk_167 0 4 (dk_at dksX3_sick_1 21 rfl rfl)
theorem dX3_sick_48 : decode cX3_sick 48 = .ok (.iconst 0, 1) := dk_3 (dk_at dksX3_sick_2 0 rfl rfl)
theorem dX3_sick_49 : decode cX3_sick 49 = .ok (.iconst 2, 1) := dk_5 (dk_at dksX3_sick_2 1 rfl rfl)
theorem dX3_sick_50 : decode cX3_sick 50 = .ok (.invokevirtual 262, 3) := dk_182 1 6 (dk_at dksX3_sick_2 2 rfl rfl)
theorem dX3_sick_53 : decode cX3_sick 53 = .ok (.ifCond .eq 5, 3) := dk_153 0 5 (dk_at dksX3_sick_2 5 rfl rfl)
theorem dX3_sick_56 : decode cX3_sick 56 = .ok (.iconst 0, 1) := dk_3 (dk_at dksX3_sick_2 8 rfl rfl)
theorem dX3_sick_57 : decode cX3_sick 57 = .ok (.ireturn, 1) := dk_172 (dk_at dksX3_sick_2 9 rfl rfl)
theorem dX3_sick_58 : decode cX3_sick 58 = .ok (.aload_n 0, 1) := dk_42 (dk_at dksX3_sick_2 10 rfl rfl)
theorem dX3_sick_59 : decode cX3_sick 59 = .ok (.invokevirtual 386, 3) := dk_182 1 130 (dk_at dksX3_sick_2 11 rfl rfl)
theorem dX3_sick_62 : decode cX3_sick 62 = .ok (.aload_n 0, 1) := dk_42 (dk_at dksX3_sick_2 14 rfl rfl)
theorem dX3_sick_63 : decode cX3_sick 63 = .ok (.iload_n 1, 1) := dk_27 (dk_at dksX3_sick_2 15 rfl rfl)
theorem dX3_sick_64 : decode cX3_sick 64 = .ok (.iload_n 2, 1) := dk_28 (dk_at dksX3_sick_2 16 rfl rfl)
theorem dX3_sick_65 : decode cX3_sick 65 = .ok (.iload_n 3, 1) := dk_29 (dk_at dksX3_sick_2 17 rfl rfl)
theorem dX3_sick_66 : decode cX3_sick 66 = .ok (.iload 4, 2) := dk_21 4 (dk_at dksX3_sick_2 18 rfl rfl)
theorem dX3_sick_68 : decode cX3_sick 68 = .ok (.invokevirtual 290, 3) := dk_182 1 34 (dk_at dksX3_sick_2 20 rfl rfl)
theorem dX3_sick_71 : decode cX3_sick 71 = .ok (.ireturn, 1) := dk_172 (dk_at dksX3_sick_2 23 rfl rfl)
abbrev cX3_mark : ByteArray := prog_39_method_107_code
def yX3_mark : MethodName := ⟨RX3, "mark", "(II)I"⟩
def dkwX3_mark_3 : List UInt8 := [180, 0, 13, 27, 7, 184, 0, 63, 92, 46, 28, 96, 79, 42, 27, 7, 182, 0, 67, 172]
abbrev dktX3_mark_3 : List UInt8 := dkwX3_mark_3 ++ []
def dkwX3_mark_2 : List UInt8 := [148, 158, 0, 7, 4, 167, 0, 4, 3, 6, 182, 1, 6, 153, 0, 5, 3, 172, 42, 182, 1, 130, 42]
abbrev dktX3_mark_2 : List UInt8 := dkwX3_mark_2 ++ dktX3_mark_3
def dkwX3_mark_1 : List UInt8 := [5, 182, 1, 6, 154, 0, 36, 42, 42, 27, 7, 182, 0, 67, 133, 28, 133, 97, 42, 27, 182, 0, 104, 133]
abbrev dktX3_mark_1 : List UInt8 := dkwX3_mark_1 ++ dktX3_mark_2
def dkwX3_mark_0 : List UInt8 := [42, 3, 181, 0, 3, 42, 27, 182, 1, 55, 154, 0, 54, 42, 28, 4, 162, 0, 7, 4, 167, 0, 4, 3]
abbrev dktX3_mark_0 : List UInt8 := dkwX3_mark_0 ++ dktX3_mark_1
theorem dksX3_mark_0 : cX3_mark.data.toList.drop 0 = dktX3_mark_0 := by decide +kernel
theorem dksX3_mark_1 : cX3_mark.data.toList.drop 24 = dktX3_mark_1 := dk_seg dksX3_mark_0 24 rfl rfl
theorem dksX3_mark_2 : cX3_mark.data.toList.drop 48 = dktX3_mark_2 := dk_seg dksX3_mark_1 24 rfl rfl
theorem dksX3_mark_3 : cX3_mark.data.toList.drop 71 = dktX3_mark_3 := dk_seg dksX3_mark_2 23 rfl rfl
theorem dX3_mark_0 : decode cX3_mark 0 = .ok (.aload_n 0, 1) := dk_42 (dk_at dksX3_mark_0 0 rfl rfl)
theorem dX3_mark_1 : decode cX3_mark 1 = .ok (.iconst 0, 1) := dk_3 (dk_at dksX3_mark_0 1 rfl rfl)
theorem dX3_mark_2 : decode cX3_mark 2 = .ok (.putfield 3, 3) := dk_181 0 3 (dk_at dksX3_mark_0 2 rfl rfl)
theorem dX3_mark_5 : decode cX3_mark 5 = .ok (.aload_n 0, 1) := dk_42 (dk_at dksX3_mark_0 5 rfl rfl)
theorem dX3_mark_6 : decode cX3_mark 6 = .ok (.iload_n 1, 1) := dk_27 (dk_at dksX3_mark_0 6 rfl rfl)
theorem dX3_mark_7 : decode cX3_mark 7 = .ok (.invokevirtual 311, 3) := dk_182 1 55 (dk_at dksX3_mark_0 7 rfl rfl)
theorem dX3_mark_10 : decode cX3_mark 10 = .ok (.ifCond .ne 54, 3) := dk_154 0 54 (dk_at dksX3_mark_0 10 rfl rfl)
theorem dX3_mark_13 : decode cX3_mark 13 = .ok (.aload_n 0, 1) := dk_42 (dk_at dksX3_mark_0 13 rfl rfl)
theorem dX3_mark_14 : decode cX3_mark 14 = .ok (.iload_n 2, 1) := dk_28 (dk_at dksX3_mark_0 14 rfl rfl)
theorem dX3_mark_15 : decode cX3_mark 15 = .ok (.iconst 1, 1) := dk_4 (dk_at dksX3_mark_0 15 rfl rfl)
theorem dX3_mark_16 : decode cX3_mark 16 = .ok (.if_icmp .ge 7, 3) := dk_162 0 7 (dk_at dksX3_mark_0 16 rfl rfl)
theorem dX3_mark_19 : decode cX3_mark 19 = .ok (.iconst 1, 1) := dk_4 (dk_at dksX3_mark_0 19 rfl rfl)
theorem dX3_mark_20 : decode cX3_mark 20 = .ok (.goto 4, 3) := dk_167 0 4 (dk_at dksX3_mark_0 20 rfl rfl)
theorem dX3_mark_23 : decode cX3_mark 23 = .ok (.iconst 0, 1) := dk_3 (dk_at dksX3_mark_0 23 rfl rfl)
theorem dX3_mark_24 : decode cX3_mark 24 = .ok (.iconst 2, 1) := dk_5 (dk_at dksX3_mark_1 0 rfl rfl)
theorem dX3_mark_25 : decode cX3_mark 25 = .ok (.invokevirtual 262, 3) := dk_182 1 6 (dk_at dksX3_mark_1 1 rfl rfl)
theorem dX3_mark_28 : decode cX3_mark 28 = .ok (.ifCond .ne 36, 3) := dk_154 0 36 (dk_at dksX3_mark_1 4 rfl rfl)
theorem dX3_mark_31 : decode cX3_mark 31 = .ok (.aload_n 0, 1) := dk_42 (dk_at dksX3_mark_1 7 rfl rfl)
theorem dX3_mark_32 : decode cX3_mark 32 = .ok (.aload_n 0, 1) := dk_42 (dk_at dksX3_mark_1 8 rfl rfl)
theorem dX3_mark_33 : decode cX3_mark 33 = .ok (.iload_n 1, 1) := dk_27 (dk_at dksX3_mark_1 9 rfl rfl)
theorem dX3_mark_34 : decode cX3_mark 34 = .ok (.iconst 4, 1) := dk_7 (dk_at dksX3_mark_1 10 rfl rfl)
theorem dX3_mark_35 : decode cX3_mark 35 = .ok (.invokevirtual 67, 3) := dk_182 0 67 (dk_at dksX3_mark_1 11 rfl rfl)
theorem dX3_mark_38 : decode cX3_mark 38 = .ok (.i2l, 1) := dk_133 (dk_at dksX3_mark_1 14 rfl rfl)
theorem dX3_mark_39 : decode cX3_mark 39 = .ok (.iload_n 2, 1) := dk_28 (dk_at dksX3_mark_1 15 rfl rfl)
theorem dX3_mark_40 : decode cX3_mark 40 = .ok (.i2l, 1) := dk_133 (dk_at dksX3_mark_1 16 rfl rfl)
theorem dX3_mark_41 : decode cX3_mark 41 = .ok (.ladd, 1) := dk_97 (dk_at dksX3_mark_1 17 rfl rfl)
theorem dX3_mark_42 : decode cX3_mark 42 = .ok (.aload_n 0, 1) := dk_42 (dk_at dksX3_mark_1 18 rfl rfl)
theorem dX3_mark_43 : decode cX3_mark 43 = .ok (.iload_n 1, 1) := dk_27 (dk_at dksX3_mark_1 19 rfl rfl)
theorem dX3_mark_44 : decode cX3_mark 44 = .ok (.invokevirtual 104, 3) := dk_182 0 104 (dk_at dksX3_mark_1 20 rfl rfl)
theorem dX3_mark_47 : decode cX3_mark 47 = .ok (.i2l, 1) := dk_133 (dk_at dksX3_mark_1 23 rfl rfl)
theorem dX3_mark_48 : decode cX3_mark 48 = .ok (.lcmp, 1) := dk_148 (dk_at dksX3_mark_2 0 rfl rfl)
theorem dX3_mark_49 : decode cX3_mark 49 = .ok (.ifCond .le 7, 3) := dk_158 0 7 (dk_at dksX3_mark_2 1 rfl rfl)
theorem dX3_mark_52 : decode cX3_mark 52 = .ok (.iconst 1, 1) := dk_4 (dk_at dksX3_mark_2 4 rfl rfl)
theorem dX3_mark_53 : decode cX3_mark 53 = .ok (.goto 4, 3) := dk_167 0 4 (dk_at dksX3_mark_2 5 rfl rfl)
theorem dX3_mark_56 : decode cX3_mark 56 = .ok (.iconst 0, 1) := dk_3 (dk_at dksX3_mark_2 8 rfl rfl)
theorem dX3_mark_57 : decode cX3_mark 57 = .ok (.iconst 3, 1) := dk_6 (dk_at dksX3_mark_2 9 rfl rfl)
theorem dX3_mark_58 : decode cX3_mark 58 = .ok (.invokevirtual 262, 3) := dk_182 1 6 (dk_at dksX3_mark_2 10 rfl rfl)
theorem dX3_mark_61 : decode cX3_mark 61 = .ok (.ifCond .eq 5, 3) := dk_153 0 5 (dk_at dksX3_mark_2 13 rfl rfl)
theorem dX3_mark_64 : decode cX3_mark 64 = .ok (.iconst 0, 1) := dk_3 (dk_at dksX3_mark_2 16 rfl rfl)
theorem dX3_mark_65 : decode cX3_mark 65 = .ok (.ireturn, 1) := dk_172 (dk_at dksX3_mark_2 17 rfl rfl)
theorem dX3_mark_66 : decode cX3_mark 66 = .ok (.aload_n 0, 1) := dk_42 (dk_at dksX3_mark_2 18 rfl rfl)
theorem dX3_mark_67 : decode cX3_mark 67 = .ok (.invokevirtual 386, 3) := dk_182 1 130 (dk_at dksX3_mark_2 19 rfl rfl)
theorem dX3_mark_70 : decode cX3_mark 70 = .ok (.aload_n 0, 1) := dk_42 (dk_at dksX3_mark_2 22 rfl rfl)
theorem dX3_mark_71 : decode cX3_mark 71 = .ok (.getfield 13, 3) := dk_180 0 13 (dk_at dksX3_mark_3 0 rfl rfl)
theorem dX3_mark_74 : decode cX3_mark 74 = .ok (.iload_n 1, 1) := dk_27 (dk_at dksX3_mark_3 3 rfl rfl)
theorem dX3_mark_75 : decode cX3_mark 75 = .ok (.iconst 4, 1) := dk_7 (dk_at dksX3_mark_3 4 rfl rfl)
theorem dX3_mark_76 : decode cX3_mark 76 = .ok (.invokestatic 63, 3) := dk_184 0 63 (dk_at dksX3_mark_3 5 rfl rfl)
theorem dX3_mark_79 : decode cX3_mark 79 = .ok (.dup2, 1) := dk_92 (dk_at dksX3_mark_3 8 rfl rfl)
theorem dX3_mark_80 : decode cX3_mark 80 = .ok (.iaload, 1) := dk_46 (dk_at dksX3_mark_3 9 rfl rfl)
theorem dX3_mark_81 : decode cX3_mark 81 = .ok (.iload_n 2, 1) := dk_28 (dk_at dksX3_mark_3 10 rfl rfl)
theorem dX3_mark_82 : decode cX3_mark 82 = .ok (.iadd, 1) := dk_96 (dk_at dksX3_mark_3 11 rfl rfl)
theorem dX3_mark_83 : decode cX3_mark 83 = .ok (.iastore, 1) := dk_79 (dk_at dksX3_mark_3 12 rfl rfl)
theorem dX3_mark_84 : decode cX3_mark 84 = .ok (.aload_n 0, 1) := dk_42 (dk_at dksX3_mark_3 13 rfl rfl)
theorem dX3_mark_85 : decode cX3_mark 85 = .ok (.iload_n 1, 1) := dk_27 (dk_at dksX3_mark_3 14 rfl rfl)
theorem dX3_mark_86 : decode cX3_mark 86 = .ok (.iconst 4, 1) := dk_7 (dk_at dksX3_mark_3 15 rfl rfl)
theorem dX3_mark_87 : decode cX3_mark 87 = .ok (.invokevirtual 67, 3) := dk_182 0 67 (dk_at dksX3_mark_3 16 rfl rfl)
theorem dX3_mark_90 : decode cX3_mark 90 = .ok (.ireturn, 1) := dk_172 (dk_at dksX3_mark_3 19 rfl rfl)
abbrev cX3_survey : ByteArray := prog_39_method_108_code
def yX3_survey : MethodName := ⟨RX3, "survey", "(III)J"⟩
def dkwX3_survey_9 : List UInt8 := [180, 0, 13, 27, 16, 55, 184, 0, 63, 29, 79, 42, 27, 3, 182, 1, 102, 173]
abbrev dktX3_survey_9 : List UInt8 := dkwX3_survey_9 ++ []
def dkwX3_survey_8 : List UInt8 := [27, 16, 53, 184, 0, 63, 21, 4, 79, 42, 180, 0, 13, 27, 16, 54, 184, 0, 63, 28, 79, 42]
abbrev dktX3_survey_8 : List UInt8 := dkwX3_survey_8 ++ dktX3_survey_9
def dkwX3_survey_7 : List UInt8 := [167, 255, 221, 42, 180, 0, 13, 27, 16, 52, 184, 0, 63, 42, 180, 0, 13, 4, 46, 79, 42, 180, 0, 13]
abbrev dktX3_survey_7 : List UInt8 := dkwX3_survey_7 ++ dktX3_survey_8
def dkwX3_survey_6 : List UInt8 := [16, 52, 21, 6, 96, 184, 0, 63, 42, 27, 16, 52, 21, 6, 96, 7, 100, 182, 0, 67, 79, 132, 6, 255]
abbrev dktX3_survey_6 : List UInt8 := dkwX3_survey_6 ++ dktX3_survey_7
def dkwX3_survey_5 : List UInt8 := [184, 0, 63, 92, 46, 4, 96, 79, 16, 79, 54, 6, 21, 6, 7, 161, 0, 35, 42, 180, 0, 13, 27]
abbrev dktX3_survey_5 : List UInt8 := dkwX3_survey_5 ++ dktX3_survey_6
def dkwX3_survey_4 : List UInt8 := [182, 1, 130, 42, 27, 16, 12, 182, 0, 67, 16, 20, 162, 0, 18, 42, 180, 0, 13, 27, 16, 12]
abbrev dktX3_survey_4 : List UInt8 := dkwX3_survey_4 ++ dktX3_survey_5
def dkwX3_survey_3 : List UInt8 := [3, 54, 5, 42, 21, 5, 154, 0, 7, 4, 167, 0, 4, 3, 5, 182, 1, 6, 153, 0, 5, 9, 173, 42]
abbrev dktX3_survey_3 : List UInt8 := dkwX3_survey_3 ++ dktX3_survey_4
def dkwX3_survey_2 : List UInt8 := [184, 0, 167, 153, 0, 21, 28, 29, 100, 42, 27, 182, 0, 104, 21, 4, 100, 163, 0, 7, 4, 167, 0, 4]
abbrev dktX3_survey_2 : List UInt8 := dkwX3_survey_2 ++ dktX3_survey_3
def dkwX3_survey_1 : List UInt8 := [133, 10, 42, 27, 182, 0, 104, 133, 184, 0, 167, 153, 0, 37, 29, 133, 9, 28, 21, 4, 184, 1, 23, 133]
abbrev dktX3_survey_1 : List UInt8 := dkwX3_survey_1 ++ dktX3_survey_2
def dkwX3_survey_0 : List UInt8 := [42, 3, 181, 0, 3, 42, 27, 182, 1, 55, 153, 0, 5, 9, 173, 42, 27, 7, 182, 0, 67, 54, 4, 28]
abbrev dktX3_survey_0 : List UInt8 := dkwX3_survey_0 ++ dktX3_survey_1
theorem dksX3_survey_0 : cX3_survey.data.toList.drop 0 = dktX3_survey_0 := by decide +kernel
theorem dksX3_survey_1 : cX3_survey.data.toList.drop 24 = dktX3_survey_1 := dk_seg dksX3_survey_0 24 rfl rfl
theorem dksX3_survey_2 : cX3_survey.data.toList.drop 48 = dktX3_survey_2 := dk_seg dksX3_survey_1 24 rfl rfl
theorem dksX3_survey_3 : cX3_survey.data.toList.drop 72 = dktX3_survey_3 := dk_seg dksX3_survey_2 24 rfl rfl
theorem dksX3_survey_4 : cX3_survey.data.toList.drop 96 = dktX3_survey_4 := dk_seg dksX3_survey_3 24 rfl rfl
theorem dksX3_survey_5 : cX3_survey.data.toList.drop 118 = dktX3_survey_5 := dk_seg dksX3_survey_4 22 rfl rfl
theorem dksX3_survey_6 : cX3_survey.data.toList.drop 141 = dktX3_survey_6 := dk_seg dksX3_survey_5 23 rfl rfl
theorem dksX3_survey_7 : cX3_survey.data.toList.drop 165 = dktX3_survey_7 := dk_seg dksX3_survey_6 24 rfl rfl
theorem dksX3_survey_8 : cX3_survey.data.toList.drop 189 = dktX3_survey_8 := dk_seg dksX3_survey_7 24 rfl rfl
theorem dksX3_survey_9 : cX3_survey.data.toList.drop 211 = dktX3_survey_9 := dk_seg dksX3_survey_8 22 rfl rfl
theorem dX3_survey_0 : decode cX3_survey 0 = .ok (.aload_n 0, 1) := dk_42 (dk_at dksX3_survey_0 0 rfl rfl)
theorem dX3_survey_1 : decode cX3_survey 1 = .ok (.iconst 0, 1) := dk_3 (dk_at dksX3_survey_0 1 rfl rfl)
theorem dX3_survey_2 : decode cX3_survey 2 = .ok (.putfield 3, 3) := dk_181 0 3 (dk_at dksX3_survey_0 2 rfl rfl)
theorem dX3_survey_5 : decode cX3_survey 5 = .ok (.aload_n 0, 1) := dk_42 (dk_at dksX3_survey_0 5 rfl rfl)
theorem dX3_survey_6 : decode cX3_survey 6 = .ok (.iload_n 1, 1) := dk_27 (dk_at dksX3_survey_0 6 rfl rfl)
theorem dX3_survey_7 : decode cX3_survey 7 = .ok (.invokevirtual 311, 3) := dk_182 1 55 (dk_at dksX3_survey_0 7 rfl rfl)
theorem dX3_survey_10 : decode cX3_survey 10 = .ok (.ifCond .eq 5, 3) := dk_153 0 5 (dk_at dksX3_survey_0 10 rfl rfl)
theorem dX3_survey_13 : decode cX3_survey 13 = .ok (.lconst 0, 1) := dk_9 (dk_at dksX3_survey_0 13 rfl rfl)
theorem dX3_survey_14 : decode cX3_survey 14 = .ok (.lreturn, 1) := dk_173 (dk_at dksX3_survey_0 14 rfl rfl)
theorem dX3_survey_15 : decode cX3_survey 15 = .ok (.aload_n 0, 1) := dk_42 (dk_at dksX3_survey_0 15 rfl rfl)
theorem dX3_survey_16 : decode cX3_survey 16 = .ok (.iload_n 1, 1) := dk_27 (dk_at dksX3_survey_0 16 rfl rfl)
theorem dX3_survey_17 : decode cX3_survey 17 = .ok (.iconst 4, 1) := dk_7 (dk_at dksX3_survey_0 17 rfl rfl)
theorem dX3_survey_18 : decode cX3_survey 18 = .ok (.invokevirtual 67, 3) := dk_182 0 67 (dk_at dksX3_survey_0 18 rfl rfl)
theorem dX3_survey_21 : decode cX3_survey 21 = .ok (.istore 4, 2) := dk_54 4 (dk_at dksX3_survey_0 21 rfl rfl)
theorem dX3_survey_23 : decode cX3_survey 23 = .ok (.iload_n 2, 1) := dk_28 (dk_at dksX3_survey_0 23 rfl rfl)
theorem dX3_survey_24 : decode cX3_survey 24 = .ok (.i2l, 1) := dk_133 (dk_at dksX3_survey_1 0 rfl rfl)
theorem dX3_survey_25 : decode cX3_survey 25 = .ok (.lconst 1, 1) := dk_10 (dk_at dksX3_survey_1 1 rfl rfl)
theorem dX3_survey_26 : decode cX3_survey 26 = .ok (.aload_n 0, 1) := dk_42 (dk_at dksX3_survey_1 2 rfl rfl)
theorem dX3_survey_27 : decode cX3_survey 27 = .ok (.iload_n 1, 1) := dk_27 (dk_at dksX3_survey_1 3 rfl rfl)
theorem dX3_survey_28 : decode cX3_survey 28 = .ok (.invokevirtual 104, 3) := dk_182 0 104 (dk_at dksX3_survey_1 4 rfl rfl)
theorem dX3_survey_31 : decode cX3_survey 31 = .ok (.i2l, 1) := dk_133 (dk_at dksX3_survey_1 7 rfl rfl)
theorem dX3_survey_32 : decode cX3_survey 32 = .ok (.invokestatic 167, 3) := dk_184 0 167 (dk_at dksX3_survey_1 8 rfl rfl)
theorem dX3_survey_35 : decode cX3_survey 35 = .ok (.ifCond .eq 37, 3) := dk_153 0 37 (dk_at dksX3_survey_1 11 rfl rfl)
theorem dX3_survey_38 : decode cX3_survey 38 = .ok (.iload_n 3, 1) := dk_29 (dk_at dksX3_survey_1 14 rfl rfl)
theorem dX3_survey_39 : decode cX3_survey 39 = .ok (.i2l, 1) := dk_133 (dk_at dksX3_survey_1 15 rfl rfl)
theorem dX3_survey_40 : decode cX3_survey 40 = .ok (.lconst 0, 1) := dk_9 (dk_at dksX3_survey_1 16 rfl rfl)
theorem dX3_survey_41 : decode cX3_survey 41 = .ok (.iload_n 2, 1) := dk_28 (dk_at dksX3_survey_1 17 rfl rfl)
theorem dX3_survey_42 : decode cX3_survey 42 = .ok (.iload 4, 2) := dk_21 4 (dk_at dksX3_survey_1 18 rfl rfl)
theorem dX3_survey_44 : decode cX3_survey 44 = .ok (.invokestatic 279, 3) := dk_184 1 23 (dk_at dksX3_survey_1 20 rfl rfl)
theorem dX3_survey_47 : decode cX3_survey 47 = .ok (.i2l, 1) := dk_133 (dk_at dksX3_survey_1 23 rfl rfl)
theorem dX3_survey_48 : decode cX3_survey 48 = .ok (.invokestatic 167, 3) := dk_184 0 167 (dk_at dksX3_survey_2 0 rfl rfl)
theorem dX3_survey_51 : decode cX3_survey 51 = .ok (.ifCond .eq 21, 3) := dk_153 0 21 (dk_at dksX3_survey_2 3 rfl rfl)
theorem dX3_survey_54 : decode cX3_survey 54 = .ok (.iload_n 2, 1) := dk_28 (dk_at dksX3_survey_2 6 rfl rfl)
theorem dX3_survey_55 : decode cX3_survey 55 = .ok (.iload_n 3, 1) := dk_29 (dk_at dksX3_survey_2 7 rfl rfl)
theorem dX3_survey_56 : decode cX3_survey 56 = .ok (.isub, 1) := dk_100 (dk_at dksX3_survey_2 8 rfl rfl)
theorem dX3_survey_57 : decode cX3_survey 57 = .ok (.aload_n 0, 1) := dk_42 (dk_at dksX3_survey_2 9 rfl rfl)
theorem dX3_survey_58 : decode cX3_survey 58 = .ok (.iload_n 1, 1) := dk_27 (dk_at dksX3_survey_2 10 rfl rfl)
theorem dX3_survey_59 : decode cX3_survey 59 = .ok (.invokevirtual 104, 3) := dk_182 0 104 (dk_at dksX3_survey_2 11 rfl rfl)
theorem dX3_survey_62 : decode cX3_survey 62 = .ok (.iload 4, 2) := dk_21 4 (dk_at dksX3_survey_2 14 rfl rfl)
theorem dX3_survey_64 : decode cX3_survey 64 = .ok (.isub, 1) := dk_100 (dk_at dksX3_survey_2 16 rfl rfl)
theorem dX3_survey_65 : decode cX3_survey 65 = .ok (.if_icmp .gt 7, 3) := dk_163 0 7 (dk_at dksX3_survey_2 17 rfl rfl)
theorem dX3_survey_68 : decode cX3_survey 68 = .ok (.iconst 1, 1) := dk_4 (dk_at dksX3_survey_2 20 rfl rfl)
theorem dX3_survey_69 : decode cX3_survey 69 = .ok (.goto 4, 3) := dk_167 0 4 (dk_at dksX3_survey_2 21 rfl rfl)
theorem dX3_survey_72 : decode cX3_survey 72 = .ok (.iconst 0, 1) := dk_3 (dk_at dksX3_survey_3 0 rfl rfl)
theorem dX3_survey_73 : decode cX3_survey 73 = .ok (.istore 5, 2) := dk_54 5 (dk_at dksX3_survey_3 1 rfl rfl)
theorem dX3_survey_75 : decode cX3_survey 75 = .ok (.aload_n 0, 1) := dk_42 (dk_at dksX3_survey_3 3 rfl rfl)
theorem dX3_survey_76 : decode cX3_survey 76 = .ok (.iload 5, 2) := dk_21 5 (dk_at dksX3_survey_3 4 rfl rfl)
theorem dX3_survey_78 : decode cX3_survey 78 = .ok (.ifCond .ne 7, 3) := dk_154 0 7 (dk_at dksX3_survey_3 6 rfl rfl)
theorem dX3_survey_81 : decode cX3_survey 81 = .ok (.iconst 1, 1) := dk_4 (dk_at dksX3_survey_3 9 rfl rfl)
theorem dX3_survey_82 : decode cX3_survey 82 = .ok (.goto 4, 3) := dk_167 0 4 (dk_at dksX3_survey_3 10 rfl rfl)
theorem dX3_survey_85 : decode cX3_survey 85 = .ok (.iconst 0, 1) := dk_3 (dk_at dksX3_survey_3 13 rfl rfl)
theorem dX3_survey_86 : decode cX3_survey 86 = .ok (.iconst 2, 1) := dk_5 (dk_at dksX3_survey_3 14 rfl rfl)
theorem dX3_survey_87 : decode cX3_survey 87 = .ok (.invokevirtual 262, 3) := dk_182 1 6 (dk_at dksX3_survey_3 15 rfl rfl)
theorem dX3_survey_90 : decode cX3_survey 90 = .ok (.ifCond .eq 5, 3) := dk_153 0 5 (dk_at dksX3_survey_3 18 rfl rfl)
theorem dX3_survey_93 : decode cX3_survey 93 = .ok (.lconst 0, 1) := dk_9 (dk_at dksX3_survey_3 21 rfl rfl)
theorem dX3_survey_94 : decode cX3_survey 94 = .ok (.lreturn, 1) := dk_173 (dk_at dksX3_survey_3 22 rfl rfl)
theorem dX3_survey_95 : decode cX3_survey 95 = .ok (.aload_n 0, 1) := dk_42 (dk_at dksX3_survey_3 23 rfl rfl)
theorem dX3_survey_96 : decode cX3_survey 96 = .ok (.invokevirtual 386, 3) := dk_182 1 130 (dk_at dksX3_survey_4 0 rfl rfl)
theorem dX3_survey_99 : decode cX3_survey 99 = .ok (.aload_n 0, 1) := dk_42 (dk_at dksX3_survey_4 3 rfl rfl)
theorem dX3_survey_100 : decode cX3_survey 100 = .ok (.iload_n 1, 1) := dk_27 (dk_at dksX3_survey_4 4 rfl rfl)
theorem dX3_survey_101 : decode cX3_survey 101 = .ok (.bipush 12, 2) := dk_16 12 (dk_at dksX3_survey_4 5 rfl rfl)
theorem dX3_survey_103 : decode cX3_survey 103 = .ok (.invokevirtual 67, 3) := dk_182 0 67 (dk_at dksX3_survey_4 7 rfl rfl)
theorem dX3_survey_106 : decode cX3_survey 106 = .ok (.bipush 20, 2) := dk_16 20 (dk_at dksX3_survey_4 10 rfl rfl)
theorem dX3_survey_108 : decode cX3_survey 108 = .ok (.if_icmp .ge 18, 3) := dk_162 0 18 (dk_at dksX3_survey_4 12 rfl rfl)
theorem dX3_survey_111 : decode cX3_survey 111 = .ok (.aload_n 0, 1) := dk_42 (dk_at dksX3_survey_4 15 rfl rfl)
theorem dX3_survey_112 : decode cX3_survey 112 = .ok (.getfield 13, 3) := dk_180 0 13 (dk_at dksX3_survey_4 16 rfl rfl)
theorem dX3_survey_115 : decode cX3_survey 115 = .ok (.iload_n 1, 1) := dk_27 (dk_at dksX3_survey_4 19 rfl rfl)
theorem dX3_survey_116 : decode cX3_survey 116 = .ok (.bipush 12, 2) := dk_16 12 (dk_at dksX3_survey_4 20 rfl rfl)
theorem dX3_survey_118 : decode cX3_survey 118 = .ok (.invokestatic 63, 3) := dk_184 0 63 (dk_at dksX3_survey_5 0 rfl rfl)
theorem dX3_survey_121 : decode cX3_survey 121 = .ok (.dup2, 1) := dk_92 (dk_at dksX3_survey_5 3 rfl rfl)
theorem dX3_survey_122 : decode cX3_survey 122 = .ok (.iaload, 1) := dk_46 (dk_at dksX3_survey_5 4 rfl rfl)
theorem dX3_survey_123 : decode cX3_survey 123 = .ok (.iconst 1, 1) := dk_4 (dk_at dksX3_survey_5 5 rfl rfl)
theorem dX3_survey_124 : decode cX3_survey 124 = .ok (.iadd, 1) := dk_96 (dk_at dksX3_survey_5 6 rfl rfl)
theorem dX3_survey_125 : decode cX3_survey 125 = .ok (.iastore, 1) := dk_79 (dk_at dksX3_survey_5 7 rfl rfl)
theorem dX3_survey_126 : decode cX3_survey 126 = .ok (.bipush 79, 2) := dk_16 79 (dk_at dksX3_survey_5 8 rfl rfl)
theorem dX3_survey_128 : decode cX3_survey 128 = .ok (.istore 6, 2) := dk_54 6 (dk_at dksX3_survey_5 10 rfl rfl)
theorem dX3_survey_130 : decode cX3_survey 130 = .ok (.iload 6, 2) := dk_21 6 (dk_at dksX3_survey_5 12 rfl rfl)
theorem dX3_survey_132 : decode cX3_survey 132 = .ok (.iconst 4, 1) := dk_7 (dk_at dksX3_survey_5 14 rfl rfl)
theorem dX3_survey_133 : decode cX3_survey 133 = .ok (.if_icmp .lt 35, 3) := dk_161 0 35 (dk_at dksX3_survey_5 15 rfl rfl)
theorem dX3_survey_136 : decode cX3_survey 136 = .ok (.aload_n 0, 1) := dk_42 (dk_at dksX3_survey_5 18 rfl rfl)
theorem dX3_survey_137 : decode cX3_survey 137 = .ok (.getfield 13, 3) := dk_180 0 13 (dk_at dksX3_survey_5 19 rfl rfl)
theorem dX3_survey_140 : decode cX3_survey 140 = .ok (.iload_n 1, 1) := dk_27 (dk_at dksX3_survey_5 22 rfl rfl)
theorem dX3_survey_141 : decode cX3_survey 141 = .ok (.bipush 52, 2) := dk_16 52 (dk_at dksX3_survey_6 0 rfl rfl)
theorem dX3_survey_143 : decode cX3_survey 143 = .ok (.iload 6, 2) := dk_21 6 (dk_at dksX3_survey_6 2 rfl rfl)
theorem dX3_survey_145 : decode cX3_survey 145 = .ok (.iadd, 1) := dk_96 (dk_at dksX3_survey_6 4 rfl rfl)
theorem dX3_survey_146 : decode cX3_survey 146 = .ok (.invokestatic 63, 3) := dk_184 0 63 (dk_at dksX3_survey_6 5 rfl rfl)
theorem dX3_survey_149 : decode cX3_survey 149 = .ok (.aload_n 0, 1) := dk_42 (dk_at dksX3_survey_6 8 rfl rfl)
theorem dX3_survey_150 : decode cX3_survey 150 = .ok (.iload_n 1, 1) := dk_27 (dk_at dksX3_survey_6 9 rfl rfl)
theorem dX3_survey_151 : decode cX3_survey 151 = .ok (.bipush 52, 2) := dk_16 52 (dk_at dksX3_survey_6 10 rfl rfl)
theorem dX3_survey_153 : decode cX3_survey 153 = .ok (.iload 6, 2) := dk_21 6 (dk_at dksX3_survey_6 12 rfl rfl)
theorem dX3_survey_155 : decode cX3_survey 155 = .ok (.iadd, 1) := dk_96 (dk_at dksX3_survey_6 14 rfl rfl)
theorem dX3_survey_156 : decode cX3_survey 156 = .ok (.iconst 4, 1) := dk_7 (dk_at dksX3_survey_6 15 rfl rfl)
theorem dX3_survey_157 : decode cX3_survey 157 = .ok (.isub, 1) := dk_100 (dk_at dksX3_survey_6 16 rfl rfl)
theorem dX3_survey_158 : decode cX3_survey 158 = .ok (.invokevirtual 67, 3) := dk_182 0 67 (dk_at dksX3_survey_6 17 rfl rfl)
theorem dX3_survey_161 : decode cX3_survey 161 = .ok (.iastore, 1) := dk_79 (dk_at dksX3_survey_6 20 rfl rfl)
theorem dX3_survey_162 : decode cX3_survey 162 = .ok (.iinc 6 (-1), 3) := dk_132 6 255 (dk_at dksX3_survey_6 21 rfl rfl)
theorem dX3_survey_165 : decode cX3_survey 165 = .ok (.goto (-35), 3) := dk_167 255 221 (dk_at dksX3_survey_7 0 rfl rfl)
theorem dX3_survey_168 : decode cX3_survey 168 = .ok (.aload_n 0, 1) := dk_42 (dk_at dksX3_survey_7 3 rfl rfl)
theorem dX3_survey_169 : decode cX3_survey 169 = .ok (.getfield 13, 3) := dk_180 0 13 (dk_at dksX3_survey_7 4 rfl rfl)
theorem dX3_survey_172 : decode cX3_survey 172 = .ok (.iload_n 1, 1) := dk_27 (dk_at dksX3_survey_7 7 rfl rfl)
theorem dX3_survey_173 : decode cX3_survey 173 = .ok (.bipush 52, 2) := dk_16 52 (dk_at dksX3_survey_7 8 rfl rfl)
theorem dX3_survey_175 : decode cX3_survey 175 = .ok (.invokestatic 63, 3) := dk_184 0 63 (dk_at dksX3_survey_7 10 rfl rfl)
theorem dX3_survey_178 : decode cX3_survey 178 = .ok (.aload_n 0, 1) := dk_42 (dk_at dksX3_survey_7 13 rfl rfl)
theorem dX3_survey_179 : decode cX3_survey 179 = .ok (.getfield 13, 3) := dk_180 0 13 (dk_at dksX3_survey_7 14 rfl rfl)
theorem dX3_survey_182 : decode cX3_survey 182 = .ok (.iconst 1, 1) := dk_4 (dk_at dksX3_survey_7 17 rfl rfl)
theorem dX3_survey_183 : decode cX3_survey 183 = .ok (.iaload, 1) := dk_46 (dk_at dksX3_survey_7 18 rfl rfl)
theorem dX3_survey_184 : decode cX3_survey 184 = .ok (.iastore, 1) := dk_79 (dk_at dksX3_survey_7 19 rfl rfl)
theorem dX3_survey_185 : decode cX3_survey 185 = .ok (.aload_n 0, 1) := dk_42 (dk_at dksX3_survey_7 20 rfl rfl)
theorem dX3_survey_186 : decode cX3_survey 186 = .ok (.getfield 13, 3) := dk_180 0 13 (dk_at dksX3_survey_7 21 rfl rfl)
theorem dX3_survey_189 : decode cX3_survey 189 = .ok (.iload_n 1, 1) := dk_27 (dk_at dksX3_survey_8 0 rfl rfl)
theorem dX3_survey_190 : decode cX3_survey 190 = .ok (.bipush 53, 2) := dk_16 53 (dk_at dksX3_survey_8 1 rfl rfl)
theorem dX3_survey_192 : decode cX3_survey 192 = .ok (.invokestatic 63, 3) := dk_184 0 63 (dk_at dksX3_survey_8 3 rfl rfl)
theorem dX3_survey_195 : decode cX3_survey 195 = .ok (.iload 4, 2) := dk_21 4 (dk_at dksX3_survey_8 6 rfl rfl)
theorem dX3_survey_197 : decode cX3_survey 197 = .ok (.iastore, 1) := dk_79 (dk_at dksX3_survey_8 8 rfl rfl)
theorem dX3_survey_198 : decode cX3_survey 198 = .ok (.aload_n 0, 1) := dk_42 (dk_at dksX3_survey_8 9 rfl rfl)
theorem dX3_survey_199 : decode cX3_survey 199 = .ok (.getfield 13, 3) := dk_180 0 13 (dk_at dksX3_survey_8 10 rfl rfl)
theorem dX3_survey_202 : decode cX3_survey 202 = .ok (.iload_n 1, 1) := dk_27 (dk_at dksX3_survey_8 13 rfl rfl)
theorem dX3_survey_203 : decode cX3_survey 203 = .ok (.bipush 54, 2) := dk_16 54 (dk_at dksX3_survey_8 14 rfl rfl)
theorem dX3_survey_205 : decode cX3_survey 205 = .ok (.invokestatic 63, 3) := dk_184 0 63 (dk_at dksX3_survey_8 16 rfl rfl)
theorem dX3_survey_208 : decode cX3_survey 208 = .ok (.iload_n 2, 1) := dk_28 (dk_at dksX3_survey_8 19 rfl rfl)
theorem dX3_survey_209 : decode cX3_survey 209 = .ok (.iastore, 1) := dk_79 (dk_at dksX3_survey_8 20 rfl rfl)
theorem dX3_survey_210 : decode cX3_survey 210 = .ok (.aload_n 0, 1) := dk_42 (dk_at dksX3_survey_8 21 rfl rfl)
theorem dX3_survey_211 : decode cX3_survey 211 = .ok (.getfield 13, 3) := dk_180 0 13 (dk_at dksX3_survey_9 0 rfl rfl)
theorem dX3_survey_214 : decode cX3_survey 214 = .ok (.iload_n 1, 1) := dk_27 (dk_at dksX3_survey_9 3 rfl rfl)
theorem dX3_survey_215 : decode cX3_survey 215 = .ok (.bipush 55, 2) := dk_16 55 (dk_at dksX3_survey_9 4 rfl rfl)
theorem dX3_survey_217 : decode cX3_survey 217 = .ok (.invokestatic 63, 3) := dk_184 0 63 (dk_at dksX3_survey_9 6 rfl rfl)
theorem dX3_survey_220 : decode cX3_survey 220 = .ok (.iload_n 3, 1) := dk_29 (dk_at dksX3_survey_9 9 rfl rfl)
theorem dX3_survey_221 : decode cX3_survey 221 = .ok (.iastore, 1) := dk_79 (dk_at dksX3_survey_9 10 rfl rfl)
theorem dX3_survey_222 : decode cX3_survey 222 = .ok (.aload_n 0, 1) := dk_42 (dk_at dksX3_survey_9 11 rfl rfl)
theorem dX3_survey_223 : decode cX3_survey 223 = .ok (.iload_n 1, 1) := dk_27 (dk_at dksX3_survey_9 12 rfl rfl)
theorem dX3_survey_224 : decode cX3_survey 224 = .ok (.iconst 0, 1) := dk_3 (dk_at dksX3_survey_9 13 rfl rfl)
theorem dX3_survey_225 : decode cX3_survey 225 = .ok (.invokevirtual 358, 3) := dk_182 1 102 (dk_at dksX3_survey_9 14 rfl rfl)
theorem dX3_survey_228 : decode cX3_survey 228 = .ok (.lreturn, 1) := dk_173 (dk_at dksX3_survey_9 17 rfl rfl)
abbrev cX3_isAhead : ByteArray := prog_39_method_109_code
def yX3_isAhead : MethodName := ⟨RX3, "isAhead", "(I)Z"⟩
def dkwX3_isAhead_2 : List UInt8 := [162, 0, 7, 4, 167, 0, 4, 3, 172, 132, 2, 1, 167, 255, 200, 4, 172]
abbrev dktX3_isAhead_2 : List UInt8 := dkwX3_isAhead_2 ++ []
def dkwX3_isAhead_1 : List UInt8 := [46, 159, 0, 30, 42, 180, 0, 13, 7, 8, 27, 104, 96, 28, 96, 46, 42, 180, 0, 47, 28, 46]
abbrev dktX3_isAhead_1 : List UInt8 := dkwX3_isAhead_1 ++ dktX3_isAhead_2
def dkwX3_isAhead_0 : List UInt8 := [3, 61, 28, 7, 162, 0, 57, 42, 180, 0, 13, 7, 8, 27, 104, 96, 28, 96, 46, 42, 180, 0, 47, 28]
abbrev dktX3_isAhead_0 : List UInt8 := dkwX3_isAhead_0 ++ dktX3_isAhead_1
theorem dksX3_isAhead_0 : cX3_isAhead.data.toList.drop 0 = dktX3_isAhead_0 := by decide +kernel
theorem dksX3_isAhead_1 : cX3_isAhead.data.toList.drop 24 = dktX3_isAhead_1 := dk_seg dksX3_isAhead_0 24 rfl rfl
theorem dksX3_isAhead_2 : cX3_isAhead.data.toList.drop 46 = dktX3_isAhead_2 := dk_seg dksX3_isAhead_1 22 rfl rfl
theorem dX3_isAhead_0 : decode cX3_isAhead 0 = .ok (.iconst 0, 1) := dk_3 (dk_at dksX3_isAhead_0 0 rfl rfl)
theorem dX3_isAhead_1 : decode cX3_isAhead 1 = .ok (.istore_n 2, 1) := dk_61 (dk_at dksX3_isAhead_0 1 rfl rfl)
theorem dX3_isAhead_2 : decode cX3_isAhead 2 = .ok (.iload_n 2, 1) := dk_28 (dk_at dksX3_isAhead_0 2 rfl rfl)
theorem dX3_isAhead_3 : decode cX3_isAhead 3 = .ok (.iconst 4, 1) := dk_7 (dk_at dksX3_isAhead_0 3 rfl rfl)
theorem dX3_isAhead_4 : decode cX3_isAhead 4 = .ok (.if_icmp .ge 57, 3) := dk_162 0 57 (dk_at dksX3_isAhead_0 4 rfl rfl)
theorem dX3_isAhead_7 : decode cX3_isAhead 7 = .ok (.aload_n 0, 1) := dk_42 (dk_at dksX3_isAhead_0 7 rfl rfl)
theorem dX3_isAhead_8 : decode cX3_isAhead 8 = .ok (.getfield 13, 3) := dk_180 0 13 (dk_at dksX3_isAhead_0 8 rfl rfl)
theorem dX3_isAhead_11 : decode cX3_isAhead 11 = .ok (.iconst 4, 1) := dk_7 (dk_at dksX3_isAhead_0 11 rfl rfl)
theorem dX3_isAhead_12 : decode cX3_isAhead 12 = .ok (.iconst 5, 1) := dk_8 (dk_at dksX3_isAhead_0 12 rfl rfl)
theorem dX3_isAhead_13 : decode cX3_isAhead 13 = .ok (.iload_n 1, 1) := dk_27 (dk_at dksX3_isAhead_0 13 rfl rfl)
theorem dX3_isAhead_14 : decode cX3_isAhead 14 = .ok (.imul, 1) := dk_104 (dk_at dksX3_isAhead_0 14 rfl rfl)
theorem dX3_isAhead_15 : decode cX3_isAhead 15 = .ok (.iadd, 1) := dk_96 (dk_at dksX3_isAhead_0 15 rfl rfl)
theorem dX3_isAhead_16 : decode cX3_isAhead 16 = .ok (.iload_n 2, 1) := dk_28 (dk_at dksX3_isAhead_0 16 rfl rfl)
theorem dX3_isAhead_17 : decode cX3_isAhead 17 = .ok (.iadd, 1) := dk_96 (dk_at dksX3_isAhead_0 17 rfl rfl)
theorem dX3_isAhead_18 : decode cX3_isAhead 18 = .ok (.iaload, 1) := dk_46 (dk_at dksX3_isAhead_0 18 rfl rfl)
theorem dX3_isAhead_19 : decode cX3_isAhead 19 = .ok (.aload_n 0, 1) := dk_42 (dk_at dksX3_isAhead_0 19 rfl rfl)
theorem dX3_isAhead_20 : decode cX3_isAhead 20 = .ok (.getfield 47, 3) := dk_180 0 47 (dk_at dksX3_isAhead_0 20 rfl rfl)
theorem dX3_isAhead_23 : decode cX3_isAhead 23 = .ok (.iload_n 2, 1) := dk_28 (dk_at dksX3_isAhead_0 23 rfl rfl)
theorem dX3_isAhead_24 : decode cX3_isAhead 24 = .ok (.iaload, 1) := dk_46 (dk_at dksX3_isAhead_1 0 rfl rfl)
theorem dX3_isAhead_25 : decode cX3_isAhead 25 = .ok (.if_icmp .eq 30, 3) := dk_159 0 30 (dk_at dksX3_isAhead_1 1 rfl rfl)
theorem dX3_isAhead_28 : decode cX3_isAhead 28 = .ok (.aload_n 0, 1) := dk_42 (dk_at dksX3_isAhead_1 4 rfl rfl)
theorem dX3_isAhead_29 : decode cX3_isAhead 29 = .ok (.getfield 13, 3) := dk_180 0 13 (dk_at dksX3_isAhead_1 5 rfl rfl)
theorem dX3_isAhead_32 : decode cX3_isAhead 32 = .ok (.iconst 4, 1) := dk_7 (dk_at dksX3_isAhead_1 8 rfl rfl)
theorem dX3_isAhead_33 : decode cX3_isAhead 33 = .ok (.iconst 5, 1) := dk_8 (dk_at dksX3_isAhead_1 9 rfl rfl)
theorem dX3_isAhead_34 : decode cX3_isAhead 34 = .ok (.iload_n 1, 1) := dk_27 (dk_at dksX3_isAhead_1 10 rfl rfl)
theorem dX3_isAhead_35 : decode cX3_isAhead 35 = .ok (.imul, 1) := dk_104 (dk_at dksX3_isAhead_1 11 rfl rfl)
theorem dX3_isAhead_36 : decode cX3_isAhead 36 = .ok (.iadd, 1) := dk_96 (dk_at dksX3_isAhead_1 12 rfl rfl)
theorem dX3_isAhead_37 : decode cX3_isAhead 37 = .ok (.iload_n 2, 1) := dk_28 (dk_at dksX3_isAhead_1 13 rfl rfl)
theorem dX3_isAhead_38 : decode cX3_isAhead 38 = .ok (.iadd, 1) := dk_96 (dk_at dksX3_isAhead_1 14 rfl rfl)
theorem dX3_isAhead_39 : decode cX3_isAhead 39 = .ok (.iaload, 1) := dk_46 (dk_at dksX3_isAhead_1 15 rfl rfl)
theorem dX3_isAhead_40 : decode cX3_isAhead 40 = .ok (.aload_n 0, 1) := dk_42 (dk_at dksX3_isAhead_1 16 rfl rfl)
theorem dX3_isAhead_41 : decode cX3_isAhead 41 = .ok (.getfield 47, 3) := dk_180 0 47 (dk_at dksX3_isAhead_1 17 rfl rfl)
theorem dX3_isAhead_44 : decode cX3_isAhead 44 = .ok (.iload_n 2, 1) := dk_28 (dk_at dksX3_isAhead_1 20 rfl rfl)
theorem dX3_isAhead_45 : decode cX3_isAhead 45 = .ok (.iaload, 1) := dk_46 (dk_at dksX3_isAhead_1 21 rfl rfl)
theorem dX3_isAhead_46 : decode cX3_isAhead 46 = .ok (.if_icmp .ge 7, 3) := dk_162 0 7 (dk_at dksX3_isAhead_2 0 rfl rfl)
theorem dX3_isAhead_49 : decode cX3_isAhead 49 = .ok (.iconst 1, 1) := dk_4 (dk_at dksX3_isAhead_2 3 rfl rfl)
theorem dX3_isAhead_50 : decode cX3_isAhead 50 = .ok (.goto 4, 3) := dk_167 0 4 (dk_at dksX3_isAhead_2 4 rfl rfl)
theorem dX3_isAhead_53 : decode cX3_isAhead 53 = .ok (.iconst 0, 1) := dk_3 (dk_at dksX3_isAhead_2 7 rfl rfl)
theorem dX3_isAhead_54 : decode cX3_isAhead 54 = .ok (.ireturn, 1) := dk_172 (dk_at dksX3_isAhead_2 8 rfl rfl)
theorem dX3_isAhead_55 : decode cX3_isAhead 55 = .ok (.iinc 2 1, 3) := dk_132 2 1 (dk_at dksX3_isAhead_2 9 rfl rfl)
theorem dX3_isAhead_58 : decode cX3_isAhead 58 = .ok (.goto (-56), 3) := dk_167 255 200 (dk_at dksX3_isAhead_2 12 rfl rfl)
theorem dX3_isAhead_61 : decode cX3_isAhead 61 = .ok (.iconst 1, 1) := dk_4 (dk_at dksX3_isAhead_2 15 rfl rfl)
theorem dX3_isAhead_62 : decode cX3_isAhead 62 = .ok (.ireturn, 1) := dk_172 (dk_at dksX3_isAhead_2 16 rfl rfl)
abbrev cX3_plan : ByteArray := prog_39_method_110_code
def yX3_plan : MethodName := ⟨RX3, "plan", "(IIIII)I"⟩
def dkwX3_plan_12 : List UInt8 := [167, 255, 226, 42, 180, 0, 13, 6, 92, 46, 4, 96, 79, 21, 7, 172]
abbrev dktX3_plan_12 : List UInt8 := dkwX3_plan_12 ++ []
def dkwX3_plan_11 : List UInt8 := [180, 0, 13, 7, 8, 21, 7, 104, 96, 21, 8, 96, 42, 180, 0, 47, 21, 8, 46, 79, 132, 8, 1]
abbrev dktX3_plan_11 : List UInt8 := dkwX3_plan_11 ++ dktX3_plan_12
def dkwX3_plan_10 : List UInt8 := [180, 0, 13, 21, 8, 46, 79, 132, 8, 255, 167, 255, 226, 3, 54, 8, 21, 8, 8, 162, 0, 30, 42]
abbrev dktX3_plan_10 : List UInt8 := dkwX3_plan_10 ++ dktX3_plan_11
def dkwX3_plan_9 : List UInt8 := [54, 8, 21, 8, 7, 8, 21, 7, 104, 96, 161, 0, 25, 42, 180, 0, 13, 21, 8, 8, 96, 42]
abbrev dktX3_plan_9 : List UInt8 := dkwX3_plan_9 ++ dktX3_plan_10
def dkwX3_plan_8 : List UInt8 := [182, 1, 140, 153, 0, 9, 132, 7, 1, 167, 255, 233, 7, 8, 42, 180, 0, 13, 6, 46, 104, 96, 4, 100]
abbrev dktX3_plan_8 : List UInt8 := dkwX3_plan_8 ++ dktX3_plan_9
def dkwX3_plan_7 : List UInt8 := [180, 0, 47, 7, 21, 5, 79, 3, 54, 7, 21, 7, 42, 180, 0, 13, 6, 46, 162, 0, 18, 42, 21, 7]
abbrev dktX3_plan_7 : List UInt8 := dkwX3_plan_7 ++ dktX3_plan_8
def dkwX3_plan_6 : List UInt8 := [42, 180, 0, 47, 4, 28, 79, 42, 180, 0, 47, 5, 29, 79, 42, 180, 0, 47, 6, 21, 4, 79, 42]
abbrev dktX3_plan_6 : List UInt8 := dkwX3_plan_6 ++ dktX3_plan_7
def dkwX3_plan_5 : List UInt8 := [167, 0, 4, 3, 6, 182, 1, 6, 153, 0, 5, 3, 172, 42, 182, 1, 130, 42, 180, 0, 47, 3, 27, 79]
abbrev dktX3_plan_5 : List UInt8 := dkwX3_plan_5 ++ dktX3_plan_6
def dkwX3_plan_4 : List UInt8 := [167, 0, 4, 3, 5, 182, 1, 6, 154, 0, 27, 42, 42, 180, 0, 13, 6, 46, 16, 12, 160, 0, 7, 4]
abbrev dktX3_plan_4 : List UInt8 := dkwX3_plan_4 ++ dktX3_plan_5
def dkwX3_plan_3 : List UInt8 := [167, 0, 4, 3, 54, 6, 42, 29, 21, 4, 182, 1, 66, 154, 0, 45, 42, 21, 6, 154, 0, 7, 4]
abbrev dktX3_plan_3 : List UInt8 := dkwX3_plan_3 ++ dktX3_plan_4
def dkwX3_plan_2 : List UInt8 := [184, 0, 167, 153, 0, 23, 167, 0, 16, 21, 5, 133, 10, 20, 1, 44, 184, 0, 167, 153, 0, 7, 4]
abbrev dktX3_plan_2 : List UInt8 := dkwX3_plan_2 ++ dktX3_plan_3
def dkwX3_plan_1 : List UInt8 := [133, 9, 20, 1, 138, 184, 0, 167, 153, 0, 41, 28, 5, 160, 0, 19, 21, 5, 133, 9, 20, 1, 20]
abbrev dktX3_plan_1 : List UInt8 := dkwX3_plan_1 ++ dktX3_plan_2
def dkwX3_plan_0 : List UInt8 := [42, 3, 181, 0, 3, 27, 133, 42, 180, 0, 13, 4, 46, 133, 20, 1, 136, 184, 0, 167, 153, 0, 53, 28]
abbrev dktX3_plan_0 : List UInt8 := dkwX3_plan_0 ++ dktX3_plan_1
theorem dksX3_plan_0 : cX3_plan.data.toList.drop 0 = dktX3_plan_0 := by decide +kernel
theorem dksX3_plan_1 : cX3_plan.data.toList.drop 24 = dktX3_plan_1 := dk_seg dksX3_plan_0 24 rfl rfl
theorem dksX3_plan_2 : cX3_plan.data.toList.drop 47 = dktX3_plan_2 := dk_seg dksX3_plan_1 23 rfl rfl
theorem dksX3_plan_3 : cX3_plan.data.toList.drop 70 = dktX3_plan_3 := dk_seg dksX3_plan_2 23 rfl rfl
theorem dksX3_plan_4 : cX3_plan.data.toList.drop 93 = dktX3_plan_4 := dk_seg dksX3_plan_3 23 rfl rfl
theorem dksX3_plan_5 : cX3_plan.data.toList.drop 117 = dktX3_plan_5 := dk_seg dksX3_plan_4 24 rfl rfl
theorem dksX3_plan_6 : cX3_plan.data.toList.drop 141 = dktX3_plan_6 := dk_seg dksX3_plan_5 24 rfl rfl
theorem dksX3_plan_7 : cX3_plan.data.toList.drop 164 = dktX3_plan_7 := dk_seg dksX3_plan_6 23 rfl rfl
theorem dksX3_plan_8 : cX3_plan.data.toList.drop 188 = dktX3_plan_8 := dk_seg dksX3_plan_7 24 rfl rfl
theorem dksX3_plan_9 : cX3_plan.data.toList.drop 212 = dktX3_plan_9 := dk_seg dksX3_plan_8 24 rfl rfl
theorem dksX3_plan_10 : cX3_plan.data.toList.drop 234 = dktX3_plan_10 := dk_seg dksX3_plan_9 22 rfl rfl
theorem dksX3_plan_11 : cX3_plan.data.toList.drop 257 = dktX3_plan_11 := dk_seg dksX3_plan_10 23 rfl rfl
theorem dksX3_plan_12 : cX3_plan.data.toList.drop 280 = dktX3_plan_12 := dk_seg dksX3_plan_11 23 rfl rfl
theorem dX3_plan_0 : decode cX3_plan 0 = .ok (.aload_n 0, 1) := dk_42 (dk_at dksX3_plan_0 0 rfl rfl)
theorem dX3_plan_1 : decode cX3_plan 1 = .ok (.iconst 0, 1) := dk_3 (dk_at dksX3_plan_0 1 rfl rfl)
theorem dX3_plan_2 : decode cX3_plan 2 = .ok (.putfield 3, 3) := dk_181 0 3 (dk_at dksX3_plan_0 2 rfl rfl)
theorem dX3_plan_5 : decode cX3_plan 5 = .ok (.iload_n 1, 1) := dk_27 (dk_at dksX3_plan_0 5 rfl rfl)
theorem dX3_plan_6 : decode cX3_plan 6 = .ok (.i2l, 1) := dk_133 (dk_at dksX3_plan_0 6 rfl rfl)
theorem dX3_plan_7 : decode cX3_plan 7 = .ok (.aload_n 0, 1) := dk_42 (dk_at dksX3_plan_0 7 rfl rfl)
theorem dX3_plan_8 : decode cX3_plan 8 = .ok (.getfield 13, 3) := dk_180 0 13 (dk_at dksX3_plan_0 8 rfl rfl)
theorem dX3_plan_11 : decode cX3_plan 11 = .ok (.iconst 1, 1) := dk_4 (dk_at dksX3_plan_0 11 rfl rfl)
theorem dX3_plan_12 : decode cX3_plan 12 = .ok (.iaload, 1) := dk_46 (dk_at dksX3_plan_0 12 rfl rfl)
theorem dX3_plan_13 : decode cX3_plan 13 = .ok (.i2l, 1) := dk_133 (dk_at dksX3_plan_0 13 rfl rfl)
theorem dX3_plan_14 : decode cX3_plan 14 = .ok (.ldc2_w 392, 3) := dk_20 1 136 (dk_at dksX3_plan_0 14 rfl rfl)
theorem dX3_plan_17 : decode cX3_plan 17 = .ok (.invokestatic 167, 3) := dk_184 0 167 (dk_at dksX3_plan_0 17 rfl rfl)
theorem dX3_plan_20 : decode cX3_plan 20 = .ok (.ifCond .eq 53, 3) := dk_153 0 53 (dk_at dksX3_plan_0 20 rfl rfl)
theorem dX3_plan_23 : decode cX3_plan 23 = .ok (.iload_n 2, 1) := dk_28 (dk_at dksX3_plan_0 23 rfl rfl)
theorem dX3_plan_24 : decode cX3_plan 24 = .ok (.i2l, 1) := dk_133 (dk_at dksX3_plan_1 0 rfl rfl)
theorem dX3_plan_25 : decode cX3_plan 25 = .ok (.lconst 0, 1) := dk_9 (dk_at dksX3_plan_1 1 rfl rfl)
theorem dX3_plan_26 : decode cX3_plan 26 = .ok (.ldc2_w 394, 3) := dk_20 1 138 (dk_at dksX3_plan_1 2 rfl rfl)
theorem dX3_plan_29 : decode cX3_plan 29 = .ok (.invokestatic 167, 3) := dk_184 0 167 (dk_at dksX3_plan_1 5 rfl rfl)
theorem dX3_plan_32 : decode cX3_plan 32 = .ok (.ifCond .eq 41, 3) := dk_153 0 41 (dk_at dksX3_plan_1 8 rfl rfl)
theorem dX3_plan_35 : decode cX3_plan 35 = .ok (.iload_n 2, 1) := dk_28 (dk_at dksX3_plan_1 11 rfl rfl)
theorem dX3_plan_36 : decode cX3_plan 36 = .ok (.iconst 2, 1) := dk_5 (dk_at dksX3_plan_1 12 rfl rfl)
theorem dX3_plan_37 : decode cX3_plan 37 = .ok (.if_icmp .ne 19, 3) := dk_160 0 19 (dk_at dksX3_plan_1 13 rfl rfl)
theorem dX3_plan_40 : decode cX3_plan 40 = .ok (.iload 5, 2) := dk_21 5 (dk_at dksX3_plan_1 16 rfl rfl)
theorem dX3_plan_42 : decode cX3_plan 42 = .ok (.i2l, 1) := dk_133 (dk_at dksX3_plan_1 18 rfl rfl)
theorem dX3_plan_43 : decode cX3_plan 43 = .ok (.lconst 0, 1) := dk_9 (dk_at dksX3_plan_1 19 rfl rfl)
theorem dX3_plan_44 : decode cX3_plan 44 = .ok (.ldc2_w 276, 3) := dk_20 1 20 (dk_at dksX3_plan_1 20 rfl rfl)
theorem dX3_plan_47 : decode cX3_plan 47 = .ok (.invokestatic 167, 3) := dk_184 0 167 (dk_at dksX3_plan_2 0 rfl rfl)
theorem dX3_plan_50 : decode cX3_plan 50 = .ok (.ifCond .eq 23, 3) := dk_153 0 23 (dk_at dksX3_plan_2 3 rfl rfl)
theorem dX3_plan_53 : decode cX3_plan 53 = .ok (.goto 16, 3) := dk_167 0 16 (dk_at dksX3_plan_2 6 rfl rfl)
theorem dX3_plan_56 : decode cX3_plan 56 = .ok (.iload 5, 2) := dk_21 5 (dk_at dksX3_plan_2 9 rfl rfl)
theorem dX3_plan_58 : decode cX3_plan 58 = .ok (.i2l, 1) := dk_133 (dk_at dksX3_plan_2 11 rfl rfl)
theorem dX3_plan_59 : decode cX3_plan 59 = .ok (.lconst 1, 1) := dk_10 (dk_at dksX3_plan_2 12 rfl rfl)
theorem dX3_plan_60 : decode cX3_plan 60 = .ok (.ldc2_w 300, 3) := dk_20 1 44 (dk_at dksX3_plan_2 13 rfl rfl)
theorem dX3_plan_63 : decode cX3_plan 63 = .ok (.invokestatic 167, 3) := dk_184 0 167 (dk_at dksX3_plan_2 16 rfl rfl)
theorem dX3_plan_66 : decode cX3_plan 66 = .ok (.ifCond .eq 7, 3) := dk_153 0 7 (dk_at dksX3_plan_2 19 rfl rfl)
theorem dX3_plan_69 : decode cX3_plan 69 = .ok (.iconst 1, 1) := dk_4 (dk_at dksX3_plan_2 22 rfl rfl)
theorem dX3_plan_70 : decode cX3_plan 70 = .ok (.goto 4, 3) := dk_167 0 4 (dk_at dksX3_plan_3 0 rfl rfl)
theorem dX3_plan_73 : decode cX3_plan 73 = .ok (.iconst 0, 1) := dk_3 (dk_at dksX3_plan_3 3 rfl rfl)
theorem dX3_plan_74 : decode cX3_plan 74 = .ok (.istore 6, 2) := dk_54 6 (dk_at dksX3_plan_3 4 rfl rfl)
theorem dX3_plan_76 : decode cX3_plan 76 = .ok (.aload_n 0, 1) := dk_42 (dk_at dksX3_plan_3 6 rfl rfl)
theorem dX3_plan_77 : decode cX3_plan 77 = .ok (.iload_n 3, 1) := dk_29 (dk_at dksX3_plan_3 7 rfl rfl)
theorem dX3_plan_78 : decode cX3_plan 78 = .ok (.iload 4, 2) := dk_21 4 (dk_at dksX3_plan_3 8 rfl rfl)
theorem dX3_plan_80 : decode cX3_plan 80 = .ok (.invokevirtual 322, 3) := dk_182 1 66 (dk_at dksX3_plan_3 10 rfl rfl)
theorem dX3_plan_83 : decode cX3_plan 83 = .ok (.ifCond .ne 45, 3) := dk_154 0 45 (dk_at dksX3_plan_3 13 rfl rfl)
theorem dX3_plan_86 : decode cX3_plan 86 = .ok (.aload_n 0, 1) := dk_42 (dk_at dksX3_plan_3 16 rfl rfl)
theorem dX3_plan_87 : decode cX3_plan 87 = .ok (.iload 6, 2) := dk_21 6 (dk_at dksX3_plan_3 17 rfl rfl)
theorem dX3_plan_89 : decode cX3_plan 89 = .ok (.ifCond .ne 7, 3) := dk_154 0 7 (dk_at dksX3_plan_3 19 rfl rfl)
theorem dX3_plan_92 : decode cX3_plan 92 = .ok (.iconst 1, 1) := dk_4 (dk_at dksX3_plan_3 22 rfl rfl)
theorem dX3_plan_93 : decode cX3_plan 93 = .ok (.goto 4, 3) := dk_167 0 4 (dk_at dksX3_plan_4 0 rfl rfl)
theorem dX3_plan_96 : decode cX3_plan 96 = .ok (.iconst 0, 1) := dk_3 (dk_at dksX3_plan_4 3 rfl rfl)
theorem dX3_plan_97 : decode cX3_plan 97 = .ok (.iconst 2, 1) := dk_5 (dk_at dksX3_plan_4 4 rfl rfl)
theorem dX3_plan_98 : decode cX3_plan 98 = .ok (.invokevirtual 262, 3) := dk_182 1 6 (dk_at dksX3_plan_4 5 rfl rfl)
theorem dX3_plan_101 : decode cX3_plan 101 = .ok (.ifCond .ne 27, 3) := dk_154 0 27 (dk_at dksX3_plan_4 8 rfl rfl)
theorem dX3_plan_104 : decode cX3_plan 104 = .ok (.aload_n 0, 1) := dk_42 (dk_at dksX3_plan_4 11 rfl rfl)
theorem dX3_plan_105 : decode cX3_plan 105 = .ok (.aload_n 0, 1) := dk_42 (dk_at dksX3_plan_4 12 rfl rfl)
theorem dX3_plan_106 : decode cX3_plan 106 = .ok (.getfield 13, 3) := dk_180 0 13 (dk_at dksX3_plan_4 13 rfl rfl)
theorem dX3_plan_109 : decode cX3_plan 109 = .ok (.iconst 3, 1) := dk_6 (dk_at dksX3_plan_4 16 rfl rfl)
theorem dX3_plan_110 : decode cX3_plan 110 = .ok (.iaload, 1) := dk_46 (dk_at dksX3_plan_4 17 rfl rfl)
theorem dX3_plan_111 : decode cX3_plan 111 = .ok (.bipush 12, 2) := dk_16 12 (dk_at dksX3_plan_4 18 rfl rfl)
theorem dX3_plan_113 : decode cX3_plan 113 = .ok (.if_icmp .ne 7, 3) := dk_160 0 7 (dk_at dksX3_plan_4 20 rfl rfl)
theorem dX3_plan_116 : decode cX3_plan 116 = .ok (.iconst 1, 1) := dk_4 (dk_at dksX3_plan_4 23 rfl rfl)
theorem dX3_plan_117 : decode cX3_plan 117 = .ok (.goto 4, 3) := dk_167 0 4 (dk_at dksX3_plan_5 0 rfl rfl)
theorem dX3_plan_120 : decode cX3_plan 120 = .ok (.iconst 0, 1) := dk_3 (dk_at dksX3_plan_5 3 rfl rfl)
theorem dX3_plan_121 : decode cX3_plan 121 = .ok (.iconst 3, 1) := dk_6 (dk_at dksX3_plan_5 4 rfl rfl)
theorem dX3_plan_122 : decode cX3_plan 122 = .ok (.invokevirtual 262, 3) := dk_182 1 6 (dk_at dksX3_plan_5 5 rfl rfl)
theorem dX3_plan_125 : decode cX3_plan 125 = .ok (.ifCond .eq 5, 3) := dk_153 0 5 (dk_at dksX3_plan_5 8 rfl rfl)
theorem dX3_plan_128 : decode cX3_plan 128 = .ok (.iconst 0, 1) := dk_3 (dk_at dksX3_plan_5 11 rfl rfl)
theorem dX3_plan_129 : decode cX3_plan 129 = .ok (.ireturn, 1) := dk_172 (dk_at dksX3_plan_5 12 rfl rfl)
theorem dX3_plan_130 : decode cX3_plan 130 = .ok (.aload_n 0, 1) := dk_42 (dk_at dksX3_plan_5 13 rfl rfl)
theorem dX3_plan_131 : decode cX3_plan 131 = .ok (.invokevirtual 386, 3) := dk_182 1 130 (dk_at dksX3_plan_5 14 rfl rfl)
theorem dX3_plan_134 : decode cX3_plan 134 = .ok (.aload_n 0, 1) := dk_42 (dk_at dksX3_plan_5 17 rfl rfl)
theorem dX3_plan_135 : decode cX3_plan 135 = .ok (.getfield 47, 3) := dk_180 0 47 (dk_at dksX3_plan_5 18 rfl rfl)
theorem dX3_plan_138 : decode cX3_plan 138 = .ok (.iconst 0, 1) := dk_3 (dk_at dksX3_plan_5 21 rfl rfl)
theorem dX3_plan_139 : decode cX3_plan 139 = .ok (.iload_n 1, 1) := dk_27 (dk_at dksX3_plan_5 22 rfl rfl)
theorem dX3_plan_140 : decode cX3_plan 140 = .ok (.iastore, 1) := dk_79 (dk_at dksX3_plan_5 23 rfl rfl)
theorem dX3_plan_141 : decode cX3_plan 141 = .ok (.aload_n 0, 1) := dk_42 (dk_at dksX3_plan_6 0 rfl rfl)
theorem dX3_plan_142 : decode cX3_plan 142 = .ok (.getfield 47, 3) := dk_180 0 47 (dk_at dksX3_plan_6 1 rfl rfl)
theorem dX3_plan_145 : decode cX3_plan 145 = .ok (.iconst 1, 1) := dk_4 (dk_at dksX3_plan_6 4 rfl rfl)
theorem dX3_plan_146 : decode cX3_plan 146 = .ok (.iload_n 2, 1) := dk_28 (dk_at dksX3_plan_6 5 rfl rfl)
theorem dX3_plan_147 : decode cX3_plan 147 = .ok (.iastore, 1) := dk_79 (dk_at dksX3_plan_6 6 rfl rfl)
theorem dX3_plan_148 : decode cX3_plan 148 = .ok (.aload_n 0, 1) := dk_42 (dk_at dksX3_plan_6 7 rfl rfl)
theorem dX3_plan_149 : decode cX3_plan 149 = .ok (.getfield 47, 3) := dk_180 0 47 (dk_at dksX3_plan_6 8 rfl rfl)
theorem dX3_plan_152 : decode cX3_plan 152 = .ok (.iconst 2, 1) := dk_5 (dk_at dksX3_plan_6 11 rfl rfl)
theorem dX3_plan_153 : decode cX3_plan 153 = .ok (.iload_n 3, 1) := dk_29 (dk_at dksX3_plan_6 12 rfl rfl)
theorem dX3_plan_154 : decode cX3_plan 154 = .ok (.iastore, 1) := dk_79 (dk_at dksX3_plan_6 13 rfl rfl)
theorem dX3_plan_155 : decode cX3_plan 155 = .ok (.aload_n 0, 1) := dk_42 (dk_at dksX3_plan_6 14 rfl rfl)
theorem dX3_plan_156 : decode cX3_plan 156 = .ok (.getfield 47, 3) := dk_180 0 47 (dk_at dksX3_plan_6 15 rfl rfl)
theorem dX3_plan_159 : decode cX3_plan 159 = .ok (.iconst 3, 1) := dk_6 (dk_at dksX3_plan_6 18 rfl rfl)
theorem dX3_plan_160 : decode cX3_plan 160 = .ok (.iload 4, 2) := dk_21 4 (dk_at dksX3_plan_6 19 rfl rfl)
theorem dX3_plan_162 : decode cX3_plan 162 = .ok (.iastore, 1) := dk_79 (dk_at dksX3_plan_6 21 rfl rfl)
theorem dX3_plan_163 : decode cX3_plan 163 = .ok (.aload_n 0, 1) := dk_42 (dk_at dksX3_plan_6 22 rfl rfl)
theorem dX3_plan_164 : decode cX3_plan 164 = .ok (.getfield 47, 3) := dk_180 0 47 (dk_at dksX3_plan_7 0 rfl rfl)
theorem dX3_plan_167 : decode cX3_plan 167 = .ok (.iconst 4, 1) := dk_7 (dk_at dksX3_plan_7 3 rfl rfl)
theorem dX3_plan_168 : decode cX3_plan 168 = .ok (.iload 5, 2) := dk_21 5 (dk_at dksX3_plan_7 4 rfl rfl)
theorem dX3_plan_170 : decode cX3_plan 170 = .ok (.iastore, 1) := dk_79 (dk_at dksX3_plan_7 6 rfl rfl)
theorem dX3_plan_171 : decode cX3_plan 171 = .ok (.iconst 0, 1) := dk_3 (dk_at dksX3_plan_7 7 rfl rfl)
theorem dX3_plan_172 : decode cX3_plan 172 = .ok (.istore 7, 2) := dk_54 7 (dk_at dksX3_plan_7 8 rfl rfl)
theorem dX3_plan_174 : decode cX3_plan 174 = .ok (.iload 7, 2) := dk_21 7 (dk_at dksX3_plan_7 10 rfl rfl)
theorem dX3_plan_176 : decode cX3_plan 176 = .ok (.aload_n 0, 1) := dk_42 (dk_at dksX3_plan_7 12 rfl rfl)
theorem dX3_plan_177 : decode cX3_plan 177 = .ok (.getfield 13, 3) := dk_180 0 13 (dk_at dksX3_plan_7 13 rfl rfl)
theorem dX3_plan_180 : decode cX3_plan 180 = .ok (.iconst 3, 1) := dk_6 (dk_at dksX3_plan_7 16 rfl rfl)
theorem dX3_plan_181 : decode cX3_plan 181 = .ok (.iaload, 1) := dk_46 (dk_at dksX3_plan_7 17 rfl rfl)
theorem dX3_plan_182 : decode cX3_plan 182 = .ok (.if_icmp .ge 18, 3) := dk_162 0 18 (dk_at dksX3_plan_7 18 rfl rfl)
theorem dX3_plan_185 : decode cX3_plan 185 = .ok (.aload_n 0, 1) := dk_42 (dk_at dksX3_plan_7 21 rfl rfl)
theorem dX3_plan_186 : decode cX3_plan 186 = .ok (.iload 7, 2) := dk_21 7 (dk_at dksX3_plan_7 22 rfl rfl)
theorem dX3_plan_188 : decode cX3_plan 188 = .ok (.invokevirtual 396, 3) := dk_182 1 140 (dk_at dksX3_plan_8 0 rfl rfl)
theorem dX3_plan_191 : decode cX3_plan 191 = .ok (.ifCond .eq 9, 3) := dk_153 0 9 (dk_at dksX3_plan_8 3 rfl rfl)
theorem dX3_plan_194 : decode cX3_plan 194 = .ok (.iinc 7 1, 3) := dk_132 7 1 (dk_at dksX3_plan_8 6 rfl rfl)
theorem dX3_plan_197 : decode cX3_plan 197 = .ok (.goto (-23), 3) := dk_167 255 233 (dk_at dksX3_plan_8 9 rfl rfl)
theorem dX3_plan_200 : decode cX3_plan 200 = .ok (.iconst 4, 1) := dk_7 (dk_at dksX3_plan_8 12 rfl rfl)
theorem dX3_plan_201 : decode cX3_plan 201 = .ok (.iconst 5, 1) := dk_8 (dk_at dksX3_plan_8 13 rfl rfl)
theorem dX3_plan_202 : decode cX3_plan 202 = .ok (.aload_n 0, 1) := dk_42 (dk_at dksX3_plan_8 14 rfl rfl)
theorem dX3_plan_203 : decode cX3_plan 203 = .ok (.getfield 13, 3) := dk_180 0 13 (dk_at dksX3_plan_8 15 rfl rfl)
theorem dX3_plan_206 : decode cX3_plan 206 = .ok (.iconst 3, 1) := dk_6 (dk_at dksX3_plan_8 18 rfl rfl)
theorem dX3_plan_207 : decode cX3_plan 207 = .ok (.iaload, 1) := dk_46 (dk_at dksX3_plan_8 19 rfl rfl)
theorem dX3_plan_208 : decode cX3_plan 208 = .ok (.imul, 1) := dk_104 (dk_at dksX3_plan_8 20 rfl rfl)
theorem dX3_plan_209 : decode cX3_plan 209 = .ok (.iadd, 1) := dk_96 (dk_at dksX3_plan_8 21 rfl rfl)
theorem dX3_plan_210 : decode cX3_plan 210 = .ok (.iconst 1, 1) := dk_4 (dk_at dksX3_plan_8 22 rfl rfl)
theorem dX3_plan_211 : decode cX3_plan 211 = .ok (.isub, 1) := dk_100 (dk_at dksX3_plan_8 23 rfl rfl)
theorem dX3_plan_212 : decode cX3_plan 212 = .ok (.istore 8, 2) := dk_54 8 (dk_at dksX3_plan_9 0 rfl rfl)
theorem dX3_plan_214 : decode cX3_plan 214 = .ok (.iload 8, 2) := dk_21 8 (dk_at dksX3_plan_9 2 rfl rfl)
theorem dX3_plan_216 : decode cX3_plan 216 = .ok (.iconst 4, 1) := dk_7 (dk_at dksX3_plan_9 4 rfl rfl)
theorem dX3_plan_217 : decode cX3_plan 217 = .ok (.iconst 5, 1) := dk_8 (dk_at dksX3_plan_9 5 rfl rfl)
theorem dX3_plan_218 : decode cX3_plan 218 = .ok (.iload 7, 2) := dk_21 7 (dk_at dksX3_plan_9 6 rfl rfl)
theorem dX3_plan_220 : decode cX3_plan 220 = .ok (.imul, 1) := dk_104 (dk_at dksX3_plan_9 8 rfl rfl)
theorem dX3_plan_221 : decode cX3_plan 221 = .ok (.iadd, 1) := dk_96 (dk_at dksX3_plan_9 9 rfl rfl)
theorem dX3_plan_222 : decode cX3_plan 222 = .ok (.if_icmp .lt 25, 3) := dk_161 0 25 (dk_at dksX3_plan_9 10 rfl rfl)
theorem dX3_plan_225 : decode cX3_plan 225 = .ok (.aload_n 0, 1) := dk_42 (dk_at dksX3_plan_9 13 rfl rfl)
theorem dX3_plan_226 : decode cX3_plan 226 = .ok (.getfield 13, 3) := dk_180 0 13 (dk_at dksX3_plan_9 14 rfl rfl)
theorem dX3_plan_229 : decode cX3_plan 229 = .ok (.iload 8, 2) := dk_21 8 (dk_at dksX3_plan_9 17 rfl rfl)
theorem dX3_plan_231 : decode cX3_plan 231 = .ok (.iconst 5, 1) := dk_8 (dk_at dksX3_plan_9 19 rfl rfl)
theorem dX3_plan_232 : decode cX3_plan 232 = .ok (.iadd, 1) := dk_96 (dk_at dksX3_plan_9 20 rfl rfl)
theorem dX3_plan_233 : decode cX3_plan 233 = .ok (.aload_n 0, 1) := dk_42 (dk_at dksX3_plan_9 21 rfl rfl)
theorem dX3_plan_234 : decode cX3_plan 234 = .ok (.getfield 13, 3) := dk_180 0 13 (dk_at dksX3_plan_10 0 rfl rfl)
theorem dX3_plan_237 : decode cX3_plan 237 = .ok (.iload 8, 2) := dk_21 8 (dk_at dksX3_plan_10 3 rfl rfl)
theorem dX3_plan_239 : decode cX3_plan 239 = .ok (.iaload, 1) := dk_46 (dk_at dksX3_plan_10 5 rfl rfl)
theorem dX3_plan_240 : decode cX3_plan 240 = .ok (.iastore, 1) := dk_79 (dk_at dksX3_plan_10 6 rfl rfl)
theorem dX3_plan_241 : decode cX3_plan 241 = .ok (.iinc 8 (-1), 3) := dk_132 8 255 (dk_at dksX3_plan_10 7 rfl rfl)
theorem dX3_plan_244 : decode cX3_plan 244 = .ok (.goto (-30), 3) := dk_167 255 226 (dk_at dksX3_plan_10 10 rfl rfl)
theorem dX3_plan_247 : decode cX3_plan 247 = .ok (.iconst 0, 1) := dk_3 (dk_at dksX3_plan_10 13 rfl rfl)
theorem dX3_plan_248 : decode cX3_plan 248 = .ok (.istore 8, 2) := dk_54 8 (dk_at dksX3_plan_10 14 rfl rfl)
theorem dX3_plan_250 : decode cX3_plan 250 = .ok (.iload 8, 2) := dk_21 8 (dk_at dksX3_plan_10 16 rfl rfl)
theorem dX3_plan_252 : decode cX3_plan 252 = .ok (.iconst 5, 1) := dk_8 (dk_at dksX3_plan_10 18 rfl rfl)
theorem dX3_plan_253 : decode cX3_plan 253 = .ok (.if_icmp .ge 30, 3) := dk_162 0 30 (dk_at dksX3_plan_10 19 rfl rfl)
theorem dX3_plan_256 : decode cX3_plan 256 = .ok (.aload_n 0, 1) := dk_42 (dk_at dksX3_plan_10 22 rfl rfl)
theorem dX3_plan_257 : decode cX3_plan 257 = .ok (.getfield 13, 3) := dk_180 0 13 (dk_at dksX3_plan_11 0 rfl rfl)
theorem dX3_plan_260 : decode cX3_plan 260 = .ok (.iconst 4, 1) := dk_7 (dk_at dksX3_plan_11 3 rfl rfl)
theorem dX3_plan_261 : decode cX3_plan 261 = .ok (.iconst 5, 1) := dk_8 (dk_at dksX3_plan_11 4 rfl rfl)
theorem dX3_plan_262 : decode cX3_plan 262 = .ok (.iload 7, 2) := dk_21 7 (dk_at dksX3_plan_11 5 rfl rfl)
theorem dX3_plan_264 : decode cX3_plan 264 = .ok (.imul, 1) := dk_104 (dk_at dksX3_plan_11 7 rfl rfl)
theorem dX3_plan_265 : decode cX3_plan 265 = .ok (.iadd, 1) := dk_96 (dk_at dksX3_plan_11 8 rfl rfl)
theorem dX3_plan_266 : decode cX3_plan 266 = .ok (.iload 8, 2) := dk_21 8 (dk_at dksX3_plan_11 9 rfl rfl)
theorem dX3_plan_268 : decode cX3_plan 268 = .ok (.iadd, 1) := dk_96 (dk_at dksX3_plan_11 11 rfl rfl)
theorem dX3_plan_269 : decode cX3_plan 269 = .ok (.aload_n 0, 1) := dk_42 (dk_at dksX3_plan_11 12 rfl rfl)
theorem dX3_plan_270 : decode cX3_plan 270 = .ok (.getfield 47, 3) := dk_180 0 47 (dk_at dksX3_plan_11 13 rfl rfl)
theorem dX3_plan_273 : decode cX3_plan 273 = .ok (.iload 8, 2) := dk_21 8 (dk_at dksX3_plan_11 16 rfl rfl)
theorem dX3_plan_275 : decode cX3_plan 275 = .ok (.iaload, 1) := dk_46 (dk_at dksX3_plan_11 18 rfl rfl)
theorem dX3_plan_276 : decode cX3_plan 276 = .ok (.iastore, 1) := dk_79 (dk_at dksX3_plan_11 19 rfl rfl)
theorem dX3_plan_277 : decode cX3_plan 277 = .ok (.iinc 8 1, 3) := dk_132 8 1 (dk_at dksX3_plan_11 20 rfl rfl)
theorem dX3_plan_280 : decode cX3_plan 280 = .ok (.goto (-30), 3) := dk_167 255 226 (dk_at dksX3_plan_12 0 rfl rfl)
theorem dX3_plan_283 : decode cX3_plan 283 = .ok (.aload_n 0, 1) := dk_42 (dk_at dksX3_plan_12 3 rfl rfl)
theorem dX3_plan_284 : decode cX3_plan 284 = .ok (.getfield 13, 3) := dk_180 0 13 (dk_at dksX3_plan_12 4 rfl rfl)
theorem dX3_plan_287 : decode cX3_plan 287 = .ok (.iconst 3, 1) := dk_6 (dk_at dksX3_plan_12 7 rfl rfl)
theorem dX3_plan_288 : decode cX3_plan 288 = .ok (.dup2, 1) := dk_92 (dk_at dksX3_plan_12 8 rfl rfl)
theorem dX3_plan_289 : decode cX3_plan 289 = .ok (.iaload, 1) := dk_46 (dk_at dksX3_plan_12 9 rfl rfl)
theorem dX3_plan_290 : decode cX3_plan 290 = .ok (.iconst 1, 1) := dk_4 (dk_at dksX3_plan_12 10 rfl rfl)
theorem dX3_plan_291 : decode cX3_plan 291 = .ok (.iadd, 1) := dk_96 (dk_at dksX3_plan_12 11 rfl rfl)
theorem dX3_plan_292 : decode cX3_plan 292 = .ok (.iastore, 1) := dk_79 (dk_at dksX3_plan_12 12 rfl rfl)
theorem dX3_plan_293 : decode cX3_plan 293 = .ok (.iload 7, 2) := dk_21 7 (dk_at dksX3_plan_12 13 rfl rfl)
theorem dX3_plan_295 : decode cX3_plan 295 = .ok (.ireturn, 1) := dk_172 (dk_at dksX3_plan_12 15 rfl rfl)
abbrev cX3_cancel : ByteArray := prog_39_method_111_code
def yX3_cancel : MethodName := ⟨RX3, "cancel", "(I)I"⟩
def dkwX3_cancel_2 : List UInt8 := [180, 0, 13, 6, 46, 172]
abbrev dktX3_cancel_2 : List UInt8 := dkwX3_cancel_2 ++ []
def dkwX3_cancel_1 : List UInt8 := [4, 167, 0, 4, 3, 4, 182, 1, 6, 153, 0, 5, 3, 172, 42, 182, 1, 130, 42, 27, 182, 1, 41, 42]
abbrev dktX3_cancel_1 : List UInt8 := dkwX3_cancel_1 ++ dktX3_cancel_2
def dkwX3_cancel_0 : List UInt8 := [42, 3, 181, 0, 3, 42, 27, 133, 9, 42, 180, 0, 13, 6, 46, 4, 100, 133, 184, 0, 167, 154, 0, 7]
abbrev dktX3_cancel_0 : List UInt8 := dkwX3_cancel_0 ++ dktX3_cancel_1
theorem dksX3_cancel_0 : cX3_cancel.data.toList.drop 0 = dktX3_cancel_0 := by decide +kernel
theorem dksX3_cancel_1 : cX3_cancel.data.toList.drop 24 = dktX3_cancel_1 := dk_seg dksX3_cancel_0 24 rfl rfl
theorem dksX3_cancel_2 : cX3_cancel.data.toList.drop 48 = dktX3_cancel_2 := dk_seg dksX3_cancel_1 24 rfl rfl
theorem dX3_cancel_0 : decode cX3_cancel 0 = .ok (.aload_n 0, 1) := dk_42 (dk_at dksX3_cancel_0 0 rfl rfl)
theorem dX3_cancel_1 : decode cX3_cancel 1 = .ok (.iconst 0, 1) := dk_3 (dk_at dksX3_cancel_0 1 rfl rfl)
theorem dX3_cancel_2 : decode cX3_cancel 2 = .ok (.putfield 3, 3) := dk_181 0 3 (dk_at dksX3_cancel_0 2 rfl rfl)
theorem dX3_cancel_5 : decode cX3_cancel 5 = .ok (.aload_n 0, 1) := dk_42 (dk_at dksX3_cancel_0 5 rfl rfl)
theorem dX3_cancel_6 : decode cX3_cancel 6 = .ok (.iload_n 1, 1) := dk_27 (dk_at dksX3_cancel_0 6 rfl rfl)
theorem dX3_cancel_7 : decode cX3_cancel 7 = .ok (.i2l, 1) := dk_133 (dk_at dksX3_cancel_0 7 rfl rfl)
theorem dX3_cancel_8 : decode cX3_cancel 8 = .ok (.lconst 0, 1) := dk_9 (dk_at dksX3_cancel_0 8 rfl rfl)
theorem dX3_cancel_9 : decode cX3_cancel 9 = .ok (.aload_n 0, 1) := dk_42 (dk_at dksX3_cancel_0 9 rfl rfl)
theorem dX3_cancel_10 : decode cX3_cancel 10 = .ok (.getfield 13, 3) := dk_180 0 13 (dk_at dksX3_cancel_0 10 rfl rfl)
theorem dX3_cancel_13 : decode cX3_cancel 13 = .ok (.iconst 3, 1) := dk_6 (dk_at dksX3_cancel_0 13 rfl rfl)
theorem dX3_cancel_14 : decode cX3_cancel 14 = .ok (.iaload, 1) := dk_46 (dk_at dksX3_cancel_0 14 rfl rfl)
theorem dX3_cancel_15 : decode cX3_cancel 15 = .ok (.iconst 1, 1) := dk_4 (dk_at dksX3_cancel_0 15 rfl rfl)
theorem dX3_cancel_16 : decode cX3_cancel 16 = .ok (.isub, 1) := dk_100 (dk_at dksX3_cancel_0 16 rfl rfl)
theorem dX3_cancel_17 : decode cX3_cancel 17 = .ok (.i2l, 1) := dk_133 (dk_at dksX3_cancel_0 17 rfl rfl)
theorem dX3_cancel_18 : decode cX3_cancel 18 = .ok (.invokestatic 167, 3) := dk_184 0 167 (dk_at dksX3_cancel_0 18 rfl rfl)
theorem dX3_cancel_21 : decode cX3_cancel 21 = .ok (.ifCond .ne 7, 3) := dk_154 0 7 (dk_at dksX3_cancel_0 21 rfl rfl)
theorem dX3_cancel_24 : decode cX3_cancel 24 = .ok (.iconst 1, 1) := dk_4 (dk_at dksX3_cancel_1 0 rfl rfl)
theorem dX3_cancel_25 : decode cX3_cancel 25 = .ok (.goto 4, 3) := dk_167 0 4 (dk_at dksX3_cancel_1 1 rfl rfl)
theorem dX3_cancel_28 : decode cX3_cancel 28 = .ok (.iconst 0, 1) := dk_3 (dk_at dksX3_cancel_1 4 rfl rfl)
theorem dX3_cancel_29 : decode cX3_cancel 29 = .ok (.iconst 1, 1) := dk_4 (dk_at dksX3_cancel_1 5 rfl rfl)
theorem dX3_cancel_30 : decode cX3_cancel 30 = .ok (.invokevirtual 262, 3) := dk_182 1 6 (dk_at dksX3_cancel_1 6 rfl rfl)
theorem dX3_cancel_33 : decode cX3_cancel 33 = .ok (.ifCond .eq 5, 3) := dk_153 0 5 (dk_at dksX3_cancel_1 9 rfl rfl)
theorem dX3_cancel_36 : decode cX3_cancel 36 = .ok (.iconst 0, 1) := dk_3 (dk_at dksX3_cancel_1 12 rfl rfl)
theorem dX3_cancel_37 : decode cX3_cancel 37 = .ok (.ireturn, 1) := dk_172 (dk_at dksX3_cancel_1 13 rfl rfl)
theorem dX3_cancel_38 : decode cX3_cancel 38 = .ok (.aload_n 0, 1) := dk_42 (dk_at dksX3_cancel_1 14 rfl rfl)
theorem dX3_cancel_39 : decode cX3_cancel 39 = .ok (.invokevirtual 386, 3) := dk_182 1 130 (dk_at dksX3_cancel_1 15 rfl rfl)
theorem dX3_cancel_42 : decode cX3_cancel 42 = .ok (.aload_n 0, 1) := dk_42 (dk_at dksX3_cancel_1 18 rfl rfl)
theorem dX3_cancel_43 : decode cX3_cancel 43 = .ok (.iload_n 1, 1) := dk_27 (dk_at dksX3_cancel_1 19 rfl rfl)
theorem dX3_cancel_44 : decode cX3_cancel 44 = .ok (.invokevirtual 297, 3) := dk_182 1 41 (dk_at dksX3_cancel_1 20 rfl rfl)
theorem dX3_cancel_47 : decode cX3_cancel 47 = .ok (.aload_n 0, 1) := dk_42 (dk_at dksX3_cancel_1 23 rfl rfl)
theorem dX3_cancel_48 : decode cX3_cancel 48 = .ok (.getfield 13, 3) := dk_180 0 13 (dk_at dksX3_cancel_2 0 rfl rfl)
theorem dX3_cancel_51 : decode cX3_cancel 51 = .ok (.iconst 3, 1) := dk_6 (dk_at dksX3_cancel_2 3 rfl rfl)
theorem dX3_cancel_52 : decode cX3_cancel 52 = .ok (.iaload, 1) := dk_46 (dk_at dksX3_cancel_2 4 rfl rfl)
theorem dX3_cancel_53 : decode cX3_cancel 53 = .ok (.ireturn, 1) := dk_172 (dk_at dksX3_cancel_2 5 rfl rfl)
abbrev cX3_setSurvival : ByteArray := prog_39_method_112_code
def yX3_setSurvival : MethodName := ⟨RX3, "setSurvival", "(III)I"⟩
def dkwX3_setSurvival_3 : List UInt8 := [21, 4, 172]
abbrev dktX3_setSurvival_3 : List UInt8 := dkwX3_setSurvival_3 ++ []
def dkwX3_setSurvival_2 : List UInt8 := [16, 13, 28, 96, 182, 0, 67, 54, 4, 42, 180, 0, 13, 27, 16, 13, 28, 96, 184, 0, 63, 29, 79]
abbrev dktX3_setSurvival_2 : List UInt8 := dkwX3_setSurvival_2 ++ dktX3_setSurvival_3
def dkwX3_setSurvival_1 : List UInt8 := [154, 0, 7, 4, 167, 0, 4, 3, 5, 182, 1, 6, 153, 0, 5, 3, 172, 42, 182, 1, 130, 42, 27]
abbrev dktX3_setSurvival_1 : List UInt8 := dkwX3_setSurvival_1 ++ dktX3_setSurvival_2
def dkwX3_setSurvival_0 : List UInt8 := [42, 3, 181, 0, 3, 42, 27, 28, 182, 1, 66, 154, 0, 28, 42, 29, 133, 9, 20, 1, 20, 184, 0, 167]
abbrev dktX3_setSurvival_0 : List UInt8 := dkwX3_setSurvival_0 ++ dktX3_setSurvival_1
theorem dksX3_setSurvival_0 : cX3_setSurvival.data.toList.drop 0 = dktX3_setSurvival_0 := by decide +kernel
theorem dksX3_setSurvival_1 : cX3_setSurvival.data.toList.drop 24 = dktX3_setSurvival_1 := dk_seg dksX3_setSurvival_0 24 rfl rfl
theorem dksX3_setSurvival_2 : cX3_setSurvival.data.toList.drop 47 = dktX3_setSurvival_2 := dk_seg dksX3_setSurvival_1 23 rfl rfl
theorem dksX3_setSurvival_3 : cX3_setSurvival.data.toList.drop 70 = dktX3_setSurvival_3 := dk_seg dksX3_setSurvival_2 23 rfl rfl
theorem dX3_setSurvival_0 : decode cX3_setSurvival 0 = .ok (.aload_n 0, 1) := dk_42 (dk_at dksX3_setSurvival_0 0 rfl rfl)
theorem dX3_setSurvival_1 : decode cX3_setSurvival 1 = .ok (.iconst 0, 1) := dk_3 (dk_at dksX3_setSurvival_0 1 rfl rfl)
theorem dX3_setSurvival_2 : decode cX3_setSurvival 2 = .ok (.putfield 3, 3) := dk_181 0 3 (dk_at dksX3_setSurvival_0 2 rfl rfl)
theorem dX3_setSurvival_5 : decode cX3_setSurvival 5 = .ok (.aload_n 0, 1) := dk_42 (dk_at dksX3_setSurvival_0 5 rfl rfl)
theorem dX3_setSurvival_6 : decode cX3_setSurvival 6 = .ok (.iload_n 1, 1) := dk_27 (dk_at dksX3_setSurvival_0 6 rfl rfl)
theorem dX3_setSurvival_7 : decode cX3_setSurvival 7 = .ok (.iload_n 2, 1) := dk_28 (dk_at dksX3_setSurvival_0 7 rfl rfl)
theorem dX3_setSurvival_8 : decode cX3_setSurvival 8 = .ok (.invokevirtual 322, 3) := dk_182 1 66 (dk_at dksX3_setSurvival_0 8 rfl rfl)
theorem dX3_setSurvival_11 : decode cX3_setSurvival 11 = .ok (.ifCond .ne 28, 3) := dk_154 0 28 (dk_at dksX3_setSurvival_0 11 rfl rfl)
theorem dX3_setSurvival_14 : decode cX3_setSurvival 14 = .ok (.aload_n 0, 1) := dk_42 (dk_at dksX3_setSurvival_0 14 rfl rfl)
theorem dX3_setSurvival_15 : decode cX3_setSurvival 15 = .ok (.iload_n 3, 1) := dk_29 (dk_at dksX3_setSurvival_0 15 rfl rfl)
theorem dX3_setSurvival_16 : decode cX3_setSurvival 16 = .ok (.i2l, 1) := dk_133 (dk_at dksX3_setSurvival_0 16 rfl rfl)
theorem dX3_setSurvival_17 : decode cX3_setSurvival 17 = .ok (.lconst 0, 1) := dk_9 (dk_at dksX3_setSurvival_0 17 rfl rfl)
theorem dX3_setSurvival_18 : decode cX3_setSurvival 18 = .ok (.ldc2_w 276, 3) := dk_20 1 20 (dk_at dksX3_setSurvival_0 18 rfl rfl)
theorem dX3_setSurvival_21 : decode cX3_setSurvival 21 = .ok (.invokestatic 167, 3) := dk_184 0 167 (dk_at dksX3_setSurvival_0 21 rfl rfl)
theorem dX3_setSurvival_24 : decode cX3_setSurvival 24 = .ok (.ifCond .ne 7, 3) := dk_154 0 7 (dk_at dksX3_setSurvival_1 0 rfl rfl)
theorem dX3_setSurvival_27 : decode cX3_setSurvival 27 = .ok (.iconst 1, 1) := dk_4 (dk_at dksX3_setSurvival_1 3 rfl rfl)
theorem dX3_setSurvival_28 : decode cX3_setSurvival 28 = .ok (.goto 4, 3) := dk_167 0 4 (dk_at dksX3_setSurvival_1 4 rfl rfl)
theorem dX3_setSurvival_31 : decode cX3_setSurvival 31 = .ok (.iconst 0, 1) := dk_3 (dk_at dksX3_setSurvival_1 7 rfl rfl)
theorem dX3_setSurvival_32 : decode cX3_setSurvival 32 = .ok (.iconst 2, 1) := dk_5 (dk_at dksX3_setSurvival_1 8 rfl rfl)
theorem dX3_setSurvival_33 : decode cX3_setSurvival 33 = .ok (.invokevirtual 262, 3) := dk_182 1 6 (dk_at dksX3_setSurvival_1 9 rfl rfl)
theorem dX3_setSurvival_36 : decode cX3_setSurvival 36 = .ok (.ifCond .eq 5, 3) := dk_153 0 5 (dk_at dksX3_setSurvival_1 12 rfl rfl)
theorem dX3_setSurvival_39 : decode cX3_setSurvival 39 = .ok (.iconst 0, 1) := dk_3 (dk_at dksX3_setSurvival_1 15 rfl rfl)
theorem dX3_setSurvival_40 : decode cX3_setSurvival 40 = .ok (.ireturn, 1) := dk_172 (dk_at dksX3_setSurvival_1 16 rfl rfl)
theorem dX3_setSurvival_41 : decode cX3_setSurvival 41 = .ok (.aload_n 0, 1) := dk_42 (dk_at dksX3_setSurvival_1 17 rfl rfl)
theorem dX3_setSurvival_42 : decode cX3_setSurvival 42 = .ok (.invokevirtual 386, 3) := dk_182 1 130 (dk_at dksX3_setSurvival_1 18 rfl rfl)
theorem dX3_setSurvival_45 : decode cX3_setSurvival 45 = .ok (.aload_n 0, 1) := dk_42 (dk_at dksX3_setSurvival_1 21 rfl rfl)
theorem dX3_setSurvival_46 : decode cX3_setSurvival 46 = .ok (.iload_n 1, 1) := dk_27 (dk_at dksX3_setSurvival_1 22 rfl rfl)
theorem dX3_setSurvival_47 : decode cX3_setSurvival 47 = .ok (.bipush 13, 2) := dk_16 13 (dk_at dksX3_setSurvival_2 0 rfl rfl)
theorem dX3_setSurvival_49 : decode cX3_setSurvival 49 = .ok (.iload_n 2, 1) := dk_28 (dk_at dksX3_setSurvival_2 2 rfl rfl)
theorem dX3_setSurvival_50 : decode cX3_setSurvival 50 = .ok (.iadd, 1) := dk_96 (dk_at dksX3_setSurvival_2 3 rfl rfl)
theorem dX3_setSurvival_51 : decode cX3_setSurvival 51 = .ok (.invokevirtual 67, 3) := dk_182 0 67 (dk_at dksX3_setSurvival_2 4 rfl rfl)
theorem dX3_setSurvival_54 : decode cX3_setSurvival 54 = .ok (.istore 4, 2) := dk_54 4 (dk_at dksX3_setSurvival_2 7 rfl rfl)
theorem dX3_setSurvival_56 : decode cX3_setSurvival 56 = .ok (.aload_n 0, 1) := dk_42 (dk_at dksX3_setSurvival_2 9 rfl rfl)
theorem dX3_setSurvival_57 : decode cX3_setSurvival 57 = .ok (.getfield 13, 3) := dk_180 0 13 (dk_at dksX3_setSurvival_2 10 rfl rfl)
theorem dX3_setSurvival_60 : decode cX3_setSurvival 60 = .ok (.iload_n 1, 1) := dk_27 (dk_at dksX3_setSurvival_2 13 rfl rfl)
theorem dX3_setSurvival_61 : decode cX3_setSurvival 61 = .ok (.bipush 13, 2) := dk_16 13 (dk_at dksX3_setSurvival_2 14 rfl rfl)
theorem dX3_setSurvival_63 : decode cX3_setSurvival 63 = .ok (.iload_n 2, 1) := dk_28 (dk_at dksX3_setSurvival_2 16 rfl rfl)
theorem dX3_setSurvival_64 : decode cX3_setSurvival 64 = .ok (.iadd, 1) := dk_96 (dk_at dksX3_setSurvival_2 17 rfl rfl)
theorem dX3_setSurvival_65 : decode cX3_setSurvival 65 = .ok (.invokestatic 63, 3) := dk_184 0 63 (dk_at dksX3_setSurvival_2 18 rfl rfl)
theorem dX3_setSurvival_68 : decode cX3_setSurvival 68 = .ok (.iload_n 3, 1) := dk_29 (dk_at dksX3_setSurvival_2 21 rfl rfl)
theorem dX3_setSurvival_69 : decode cX3_setSurvival 69 = .ok (.iastore, 1) := dk_79 (dk_at dksX3_setSurvival_2 22 rfl rfl)
theorem dX3_setSurvival_70 : decode cX3_setSurvival 70 = .ok (.iload 4, 2) := dk_21 4 (dk_at dksX3_setSurvival_3 0 rfl rfl)
theorem dX3_setSurvival_72 : decode cX3_setSurvival 72 = .ok (.ireturn, 1) := dk_172 (dk_at dksX3_setSurvival_3 2 rfl rfl)
abbrev cX3_setRoom : ByteArray := prog_39_method_113_code
def yX3_setRoom : MethodName := ⟨RX3, "setRoom", "(II)I"⟩
def dkwX3_setRoom_2 : List UInt8 := [182, 0, 67, 62, 42, 180, 0, 13, 27, 6, 184, 0, 63, 28, 79, 29, 172]
abbrev dktX3_setRoom_2 : List UInt8 := dkwX3_setRoom_2 ++ []
def dkwX3_setRoom_1 : List UInt8 := [154, 0, 7, 4, 167, 0, 4, 3, 5, 182, 1, 6, 153, 0, 5, 3, 172, 42, 182, 1, 130, 42, 27, 6]
abbrev dktX3_setRoom_1 : List UInt8 := dkwX3_setRoom_1 ++ dktX3_setRoom_2
def dkwX3_setRoom_0 : List UInt8 := [42, 3, 181, 0, 3, 42, 27, 182, 1, 55, 154, 0, 28, 42, 28, 133, 9, 20, 1, 143, 184, 0, 167]
abbrev dktX3_setRoom_0 : List UInt8 := dkwX3_setRoom_0 ++ dktX3_setRoom_1
theorem dksX3_setRoom_0 : cX3_setRoom.data.toList.drop 0 = dktX3_setRoom_0 := by decide +kernel
theorem dksX3_setRoom_1 : cX3_setRoom.data.toList.drop 23 = dktX3_setRoom_1 := dk_seg dksX3_setRoom_0 23 rfl rfl
theorem dksX3_setRoom_2 : cX3_setRoom.data.toList.drop 47 = dktX3_setRoom_2 := dk_seg dksX3_setRoom_1 24 rfl rfl
theorem dX3_setRoom_0 : decode cX3_setRoom 0 = .ok (.aload_n 0, 1) := dk_42 (dk_at dksX3_setRoom_0 0 rfl rfl)
theorem dX3_setRoom_1 : decode cX3_setRoom 1 = .ok (.iconst 0, 1) := dk_3 (dk_at dksX3_setRoom_0 1 rfl rfl)
theorem dX3_setRoom_2 : decode cX3_setRoom 2 = .ok (.putfield 3, 3) := dk_181 0 3 (dk_at dksX3_setRoom_0 2 rfl rfl)
theorem dX3_setRoom_5 : decode cX3_setRoom 5 = .ok (.aload_n 0, 1) := dk_42 (dk_at dksX3_setRoom_0 5 rfl rfl)
theorem dX3_setRoom_6 : decode cX3_setRoom 6 = .ok (.iload_n 1, 1) := dk_27 (dk_at dksX3_setRoom_0 6 rfl rfl)
theorem dX3_setRoom_7 : decode cX3_setRoom 7 = .ok (.invokevirtual 311, 3) := dk_182 1 55 (dk_at dksX3_setRoom_0 7 rfl rfl)
theorem dX3_setRoom_10 : decode cX3_setRoom 10 = .ok (.ifCond .ne 28, 3) := dk_154 0 28 (dk_at dksX3_setRoom_0 10 rfl rfl)
theorem dX3_setRoom_13 : decode cX3_setRoom 13 = .ok (.aload_n 0, 1) := dk_42 (dk_at dksX3_setRoom_0 13 rfl rfl)
theorem dX3_setRoom_14 : decode cX3_setRoom 14 = .ok (.iload_n 2, 1) := dk_28 (dk_at dksX3_setRoom_0 14 rfl rfl)
theorem dX3_setRoom_15 : decode cX3_setRoom 15 = .ok (.i2l, 1) := dk_133 (dk_at dksX3_setRoom_0 15 rfl rfl)
theorem dX3_setRoom_16 : decode cX3_setRoom 16 = .ok (.lconst 0, 1) := dk_9 (dk_at dksX3_setRoom_0 16 rfl rfl)
theorem dX3_setRoom_17 : decode cX3_setRoom 17 = .ok (.ldc2_w 399, 3) := dk_20 1 143 (dk_at dksX3_setRoom_0 17 rfl rfl)
theorem dX3_setRoom_20 : decode cX3_setRoom 20 = .ok (.invokestatic 167, 3) := dk_184 0 167 (dk_at dksX3_setRoom_0 20 rfl rfl)
theorem dX3_setRoom_23 : decode cX3_setRoom 23 = .ok (.ifCond .ne 7, 3) := dk_154 0 7 (dk_at dksX3_setRoom_1 0 rfl rfl)
theorem dX3_setRoom_26 : decode cX3_setRoom 26 = .ok (.iconst 1, 1) := dk_4 (dk_at dksX3_setRoom_1 3 rfl rfl)
theorem dX3_setRoom_27 : decode cX3_setRoom 27 = .ok (.goto 4, 3) := dk_167 0 4 (dk_at dksX3_setRoom_1 4 rfl rfl)
theorem dX3_setRoom_30 : decode cX3_setRoom 30 = .ok (.iconst 0, 1) := dk_3 (dk_at dksX3_setRoom_1 7 rfl rfl)
theorem dX3_setRoom_31 : decode cX3_setRoom 31 = .ok (.iconst 2, 1) := dk_5 (dk_at dksX3_setRoom_1 8 rfl rfl)
theorem dX3_setRoom_32 : decode cX3_setRoom 32 = .ok (.invokevirtual 262, 3) := dk_182 1 6 (dk_at dksX3_setRoom_1 9 rfl rfl)
theorem dX3_setRoom_35 : decode cX3_setRoom 35 = .ok (.ifCond .eq 5, 3) := dk_153 0 5 (dk_at dksX3_setRoom_1 12 rfl rfl)
theorem dX3_setRoom_38 : decode cX3_setRoom 38 = .ok (.iconst 0, 1) := dk_3 (dk_at dksX3_setRoom_1 15 rfl rfl)
theorem dX3_setRoom_39 : decode cX3_setRoom 39 = .ok (.ireturn, 1) := dk_172 (dk_at dksX3_setRoom_1 16 rfl rfl)
theorem dX3_setRoom_40 : decode cX3_setRoom 40 = .ok (.aload_n 0, 1) := dk_42 (dk_at dksX3_setRoom_1 17 rfl rfl)
theorem dX3_setRoom_41 : decode cX3_setRoom 41 = .ok (.invokevirtual 386, 3) := dk_182 1 130 (dk_at dksX3_setRoom_1 18 rfl rfl)
theorem dX3_setRoom_44 : decode cX3_setRoom 44 = .ok (.aload_n 0, 1) := dk_42 (dk_at dksX3_setRoom_1 21 rfl rfl)
theorem dX3_setRoom_45 : decode cX3_setRoom 45 = .ok (.iload_n 1, 1) := dk_27 (dk_at dksX3_setRoom_1 22 rfl rfl)
theorem dX3_setRoom_46 : decode cX3_setRoom 46 = .ok (.iconst 3, 1) := dk_6 (dk_at dksX3_setRoom_1 23 rfl rfl)
theorem dX3_setRoom_47 : decode cX3_setRoom 47 = .ok (.invokevirtual 67, 3) := dk_182 0 67 (dk_at dksX3_setRoom_2 0 rfl rfl)
theorem dX3_setRoom_50 : decode cX3_setRoom 50 = .ok (.istore_n 3, 1) := dk_62 (dk_at dksX3_setRoom_2 3 rfl rfl)
theorem dX3_setRoom_51 : decode cX3_setRoom 51 = .ok (.aload_n 0, 1) := dk_42 (dk_at dksX3_setRoom_2 4 rfl rfl)
theorem dX3_setRoom_52 : decode cX3_setRoom 52 = .ok (.getfield 13, 3) := dk_180 0 13 (dk_at dksX3_setRoom_2 5 rfl rfl)
theorem dX3_setRoom_55 : decode cX3_setRoom 55 = .ok (.iload_n 1, 1) := dk_27 (dk_at dksX3_setRoom_2 8 rfl rfl)
theorem dX3_setRoom_56 : decode cX3_setRoom 56 = .ok (.iconst 3, 1) := dk_6 (dk_at dksX3_setRoom_2 9 rfl rfl)
theorem dX3_setRoom_57 : decode cX3_setRoom 57 = .ok (.invokestatic 63, 3) := dk_184 0 63 (dk_at dksX3_setRoom_2 10 rfl rfl)
theorem dX3_setRoom_60 : decode cX3_setRoom 60 = .ok (.iload_n 2, 1) := dk_28 (dk_at dksX3_setRoom_2 13 rfl rfl)
theorem dX3_setRoom_61 : decode cX3_setRoom 61 = .ok (.iastore, 1) := dk_79 (dk_at dksX3_setRoom_2 14 rfl rfl)
theorem dX3_setRoom_62 : decode cX3_setRoom 62 = .ok (.iload_n 3, 1) := dk_29 (dk_at dksX3_setRoom_2 15 rfl rfl)
theorem dX3_setRoom_63 : decode cX3_setRoom 63 = .ok (.ireturn, 1) := dk_172 (dk_at dksX3_setRoom_2 16 rfl rfl)
abbrev cX3_says : ByteArray := prog_39_method_114_code
def yX3_says : MethodName := ⟨RX3, "says", "(I)V"⟩
def dkwX3_says_0 : List UInt8 := [42, 180, 0, 50, 42, 180, 1, 145, 27, 145, 84, 42, 89, 180, 1, 145, 4, 96, 181, 1, 145, 177]
abbrev dktX3_says_0 : List UInt8 := dkwX3_says_0 ++ []
theorem dksX3_says_0 : cX3_says.data.toList.drop 0 = dktX3_says_0 := by decide +kernel
theorem dX3_says_0 : decode cX3_says 0 = .ok (.aload_n 0, 1) := dk_42 (dk_at dksX3_says_0 0 rfl rfl)
theorem dX3_says_1 : decode cX3_says 1 = .ok (.getfield 50, 3) := dk_180 0 50 (dk_at dksX3_says_0 1 rfl rfl)
theorem dX3_says_4 : decode cX3_says 4 = .ok (.aload_n 0, 1) := dk_42 (dk_at dksX3_says_0 4 rfl rfl)
theorem dX3_says_5 : decode cX3_says 5 = .ok (.getfield 401, 3) := dk_180 1 145 (dk_at dksX3_says_0 5 rfl rfl)
theorem dX3_says_8 : decode cX3_says 8 = .ok (.iload_n 1, 1) := dk_27 (dk_at dksX3_says_0 8 rfl rfl)
theorem dX3_says_9 : decode cX3_says 9 = .ok (.i2b, 1) := dk_145 (dk_at dksX3_says_0 9 rfl rfl)
theorem dX3_says_10 : decode cX3_says 10 = .ok (.bastore, 1) := dk_84 (dk_at dksX3_says_0 10 rfl rfl)
theorem dX3_says_11 : decode cX3_says 11 = .ok (.aload_n 0, 1) := dk_42 (dk_at dksX3_says_0 11 rfl rfl)
theorem dX3_says_12 : decode cX3_says 12 = .ok (.dup, 1) := dk_89 (dk_at dksX3_says_0 12 rfl rfl)
theorem dX3_says_13 : decode cX3_says 13 = .ok (.getfield 401, 3) := dk_180 1 145 (dk_at dksX3_says_0 13 rfl rfl)
theorem dX3_says_16 : decode cX3_says 16 = .ok (.iconst 1, 1) := dk_4 (dk_at dksX3_says_0 16 rfl rfl)
theorem dX3_says_17 : decode cX3_says 17 = .ok (.iadd, 1) := dk_96 (dk_at dksX3_says_0 17 rfl rfl)
theorem dX3_says_18 : decode cX3_says 18 = .ok (.putfield 401, 3) := dk_181 1 145 (dk_at dksX3_says_0 18 rfl rfl)
theorem dX3_says_21 : decode cX3_says 21 = .ok (.return_, 1) := dk_177 (dk_at dksX3_says_0 21 rfl rfl)
abbrev cX3_saysNumber : ByteArray := prog_39_method_116_code
def yX3_saysNumber : MethodName := ⟨RX3, "saysNumber", "(I)V"⟩
def dkwX3_saysNumber_1 : List UInt8 := [182, 1, 151, 177]
abbrev dktX3_saysNumber_1 : List UInt8 := dkwX3_saysNumber_1 ++ []
def dkwX3_saysNumber_0 : List UInt8 := [27, 16, 9, 164, 0, 11, 42, 27, 16, 10, 108, 182, 1, 154, 42, 16, 48, 27, 16, 10, 112, 96]
abbrev dktX3_saysNumber_0 : List UInt8 := dkwX3_saysNumber_0 ++ dktX3_saysNumber_1
theorem dksX3_saysNumber_0 : cX3_saysNumber.data.toList.drop 0 = dktX3_saysNumber_0 := by decide +kernel
theorem dksX3_saysNumber_1 : cX3_saysNumber.data.toList.drop 22 = dktX3_saysNumber_1 := dk_seg dksX3_saysNumber_0 22 rfl rfl
theorem dX3_saysNumber_0 : decode cX3_saysNumber 0 = .ok (.iload_n 1, 1) := dk_27 (dk_at dksX3_saysNumber_0 0 rfl rfl)
theorem dX3_saysNumber_1 : decode cX3_saysNumber 1 = .ok (.bipush 9, 2) := dk_16 9 (dk_at dksX3_saysNumber_0 1 rfl rfl)
theorem dX3_saysNumber_3 : decode cX3_saysNumber 3 = .ok (.if_icmp .le 11, 3) := dk_164 0 11 (dk_at dksX3_saysNumber_0 3 rfl rfl)
theorem dX3_saysNumber_6 : decode cX3_saysNumber 6 = .ok (.aload_n 0, 1) := dk_42 (dk_at dksX3_saysNumber_0 6 rfl rfl)
theorem dX3_saysNumber_7 : decode cX3_saysNumber 7 = .ok (.iload_n 1, 1) := dk_27 (dk_at dksX3_saysNumber_0 7 rfl rfl)
theorem dX3_saysNumber_8 : decode cX3_saysNumber 8 = .ok (.bipush 10, 2) := dk_16 10 (dk_at dksX3_saysNumber_0 8 rfl rfl)
theorem dX3_saysNumber_10 : decode cX3_saysNumber 10 = .ok (.idiv, 1) := dk_108 (dk_at dksX3_saysNumber_0 10 rfl rfl)
theorem dX3_saysNumber_11 : decode cX3_saysNumber 11 = .ok (.invokevirtual 410, 3) := dk_182 1 154 (dk_at dksX3_saysNumber_0 11 rfl rfl)
theorem dX3_saysNumber_14 : decode cX3_saysNumber 14 = .ok (.aload_n 0, 1) := dk_42 (dk_at dksX3_saysNumber_0 14 rfl rfl)
theorem dX3_saysNumber_15 : decode cX3_saysNumber 15 = .ok (.bipush 48, 2) := dk_16 48 (dk_at dksX3_saysNumber_0 15 rfl rfl)
theorem dX3_saysNumber_17 : decode cX3_saysNumber 17 = .ok (.iload_n 1, 1) := dk_27 (dk_at dksX3_saysNumber_0 17 rfl rfl)
theorem dX3_saysNumber_18 : decode cX3_saysNumber 18 = .ok (.bipush 10, 2) := dk_16 10 (dk_at dksX3_saysNumber_0 18 rfl rfl)
theorem dX3_saysNumber_20 : decode cX3_saysNumber 20 = .ok (.irem, 1) := dk_112 (dk_at dksX3_saysNumber_0 20 rfl rfl)
theorem dX3_saysNumber_21 : decode cX3_saysNumber 21 = .ok (.iadd, 1) := dk_96 (dk_at dksX3_saysNumber_0 21 rfl rfl)
theorem dX3_saysNumber_22 : decode cX3_saysNumber 22 = .ok (.invokevirtual 407, 3) := dk_182 1 151 (dk_at dksX3_saysNumber_1 0 rfl rfl)
theorem dX3_saysNumber_25 : decode cX3_saysNumber 25 = .ok (.return_, 1) := dk_177 (dk_at dksX3_saysNumber_1 3 rfl rfl)
abbrev cX3_saysName : ByteArray := prog_39_method_115_code
def yX3_saysName : MethodName := ⟨RX3, "saysName", "(I)V"⟩
def dkwX3_saysName_1 : List UInt8 := [112, 96, 182, 1, 151, 177]
abbrev dktX3_saysName_1 : List UInt8 := dkwX3_saysName_1 ++ []
def dkwX3_saysName_0 : List UInt8 := [27, 16, 26, 164, 0, 13, 42, 27, 4, 100, 16, 27, 108, 182, 1, 148, 42, 16, 97, 27, 4, 100, 16, 27]
abbrev dktX3_saysName_0 : List UInt8 := dkwX3_saysName_0 ++ dktX3_saysName_1
theorem dksX3_saysName_0 : cX3_saysName.data.toList.drop 0 = dktX3_saysName_0 := by decide +kernel
theorem dksX3_saysName_1 : cX3_saysName.data.toList.drop 24 = dktX3_saysName_1 := dk_seg dksX3_saysName_0 24 rfl rfl
theorem dX3_saysName_0 : decode cX3_saysName 0 = .ok (.iload_n 1, 1) := dk_27 (dk_at dksX3_saysName_0 0 rfl rfl)
theorem dX3_saysName_1 : decode cX3_saysName 1 = .ok (.bipush 26, 2) := dk_16 26 (dk_at dksX3_saysName_0 1 rfl rfl)
theorem dX3_saysName_3 : decode cX3_saysName 3 = .ok (.if_icmp .le 13, 3) := dk_164 0 13 (dk_at dksX3_saysName_0 3 rfl rfl)
theorem dX3_saysName_6 : decode cX3_saysName 6 = .ok (.aload_n 0, 1) := dk_42 (dk_at dksX3_saysName_0 6 rfl rfl)
theorem dX3_saysName_7 : decode cX3_saysName 7 = .ok (.iload_n 1, 1) := dk_27 (dk_at dksX3_saysName_0 7 rfl rfl)
theorem dX3_saysName_8 : decode cX3_saysName 8 = .ok (.iconst 1, 1) := dk_4 (dk_at dksX3_saysName_0 8 rfl rfl)
theorem dX3_saysName_9 : decode cX3_saysName 9 = .ok (.isub, 1) := dk_100 (dk_at dksX3_saysName_0 9 rfl rfl)
theorem dX3_saysName_10 : decode cX3_saysName 10 = .ok (.bipush 27, 2) := dk_16 27 (dk_at dksX3_saysName_0 10 rfl rfl)
theorem dX3_saysName_12 : decode cX3_saysName 12 = .ok (.idiv, 1) := dk_108 (dk_at dksX3_saysName_0 12 rfl rfl)
theorem dX3_saysName_13 : decode cX3_saysName 13 = .ok (.invokevirtual 404, 3) := dk_182 1 148 (dk_at dksX3_saysName_0 13 rfl rfl)
theorem dX3_saysName_16 : decode cX3_saysName 16 = .ok (.aload_n 0, 1) := dk_42 (dk_at dksX3_saysName_0 16 rfl rfl)
theorem dX3_saysName_17 : decode cX3_saysName 17 = .ok (.bipush 97, 2) := dk_16 97 (dk_at dksX3_saysName_0 17 rfl rfl)
theorem dX3_saysName_19 : decode cX3_saysName 19 = .ok (.iload_n 1, 1) := dk_27 (dk_at dksX3_saysName_0 19 rfl rfl)
theorem dX3_saysName_20 : decode cX3_saysName 20 = .ok (.iconst 1, 1) := dk_4 (dk_at dksX3_saysName_0 20 rfl rfl)
theorem dX3_saysName_21 : decode cX3_saysName 21 = .ok (.isub, 1) := dk_100 (dk_at dksX3_saysName_0 21 rfl rfl)
theorem dX3_saysName_22 : decode cX3_saysName 22 = .ok (.bipush 27, 2) := dk_16 27 (dk_at dksX3_saysName_0 22 rfl rfl)
theorem dX3_saysName_24 : decode cX3_saysName 24 = .ok (.irem, 1) := dk_112 (dk_at dksX3_saysName_1 0 rfl rfl)
theorem dX3_saysName_25 : decode cX3_saysName 25 = .ok (.iadd, 1) := dk_96 (dk_at dksX3_saysName_1 1 rfl rfl)
theorem dX3_saysName_26 : decode cX3_saysName 26 = .ok (.invokevirtual 407, 3) := dk_182 1 151 (dk_at dksX3_saysName_1 2 rfl rfl)
theorem dX3_saysName_29 : decode cX3_saysName 29 = .ok (.return_, 1) := dk_177 (dk_at dksX3_saysName_1 5 rfl rfl)
abbrev cX3_formatSpecies : ByteArray := prog_39_method_117_code
def yX3_formatSpecies : MethodName := ⟨RX3, "formatSpecies", "(I)I"⟩
def dkwX3_formatSpecies_5 : List UInt8 := [182, 0, 67, 182, 1, 154, 42, 180, 1, 145, 172]
abbrev dktX3_formatSpecies_5 : List UInt8 := dkwX3_formatSpecies_5 ++ []
def dkwX3_formatSpecies_4 : List UInt8 := [154, 0, 8, 42, 180, 1, 145, 172, 42, 16, 32, 182, 1, 151, 42, 16, 42, 182, 1, 151, 42, 42, 27, 7]
abbrev dktX3_formatSpecies_4 : List UInt8 := dkwX3_formatSpecies_4 ++ dktX3_formatSpecies_5
def dkwX3_formatSpecies_3 : List UInt8 := [182, 1, 151, 42, 16, 61, 182, 1, 151, 42, 42, 27, 182, 0, 104, 182, 1, 154, 42, 27, 7, 182, 0, 67]
abbrev dktX3_formatSpecies_3 : List UInt8 := dkwX3_formatSpecies_3 ++ dktX3_formatSpecies_4
def dkwX3_formatSpecies_2 : List UInt8 := [16, 32, 182, 1, 151, 42, 42, 27, 28, 182, 0, 74, 182, 1, 154, 132, 2, 1, 167, 255, 228, 42, 16, 32]
abbrev dktX3_formatSpecies_2 : List UInt8 := dkwX3_formatSpecies_2 ++ dktX3_formatSpecies_3
def dkwX3_formatSpecies_1 : List UInt8 := [182, 0, 67, 182, 1, 148, 42, 16, 58, 182, 1, 151, 3, 61, 28, 42, 27, 182, 0, 70, 163, 0, 25, 42]
abbrev dktX3_formatSpecies_1 : List UInt8 := dkwX3_formatSpecies_1 ++ dktX3_formatSpecies_2
def dkwX3_formatSpecies_0 : List UInt8 := [42, 3, 181, 0, 3, 42, 27, 182, 1, 55, 153, 0, 5, 3, 172, 42, 3, 181, 1, 145, 42, 42, 27, 3]
abbrev dktX3_formatSpecies_0 : List UInt8 := dkwX3_formatSpecies_0 ++ dktX3_formatSpecies_1
theorem dksX3_formatSpecies_0 : cX3_formatSpecies.data.toList.drop 0 = dktX3_formatSpecies_0 := by decide +kernel
theorem dksX3_formatSpecies_1 : cX3_formatSpecies.data.toList.drop 24 = dktX3_formatSpecies_1 := dk_seg dksX3_formatSpecies_0 24 rfl rfl
theorem dksX3_formatSpecies_2 : cX3_formatSpecies.data.toList.drop 48 = dktX3_formatSpecies_2 := dk_seg dksX3_formatSpecies_1 24 rfl rfl
theorem dksX3_formatSpecies_3 : cX3_formatSpecies.data.toList.drop 72 = dktX3_formatSpecies_3 := dk_seg dksX3_formatSpecies_2 24 rfl rfl
theorem dksX3_formatSpecies_4 : cX3_formatSpecies.data.toList.drop 96 = dktX3_formatSpecies_4 := dk_seg dksX3_formatSpecies_3 24 rfl rfl
theorem dksX3_formatSpecies_5 : cX3_formatSpecies.data.toList.drop 120 = dktX3_formatSpecies_5 := dk_seg dksX3_formatSpecies_4 24 rfl rfl
theorem dX3_formatSpecies_0 : decode cX3_formatSpecies 0 = .ok (.aload_n 0, 1) := dk_42 (dk_at dksX3_formatSpecies_0 0 rfl rfl)
theorem dX3_formatSpecies_1 : decode cX3_formatSpecies 1 = .ok (.iconst 0, 1) := dk_3 (dk_at dksX3_formatSpecies_0 1 rfl rfl)
theorem dX3_formatSpecies_2 : decode cX3_formatSpecies 2 = .ok (.putfield 3, 3) := dk_181 0 3 (dk_at dksX3_formatSpecies_0 2 rfl rfl)
theorem dX3_formatSpecies_5 : decode cX3_formatSpecies 5 = .ok (.aload_n 0, 1) := dk_42 (dk_at dksX3_formatSpecies_0 5 rfl rfl)
theorem dX3_formatSpecies_6 : decode cX3_formatSpecies 6 = .ok (.iload_n 1, 1) := dk_27 (dk_at dksX3_formatSpecies_0 6 rfl rfl)
theorem dX3_formatSpecies_7 : decode cX3_formatSpecies 7 = .ok (.invokevirtual 311, 3) := dk_182 1 55 (dk_at dksX3_formatSpecies_0 7 rfl rfl)
theorem dX3_formatSpecies_10 : decode cX3_formatSpecies 10 = .ok (.ifCond .eq 5, 3) := dk_153 0 5 (dk_at dksX3_formatSpecies_0 10 rfl rfl)
theorem dX3_formatSpecies_13 : decode cX3_formatSpecies 13 = .ok (.iconst 0, 1) := dk_3 (dk_at dksX3_formatSpecies_0 13 rfl rfl)
theorem dX3_formatSpecies_14 : decode cX3_formatSpecies 14 = .ok (.ireturn, 1) := dk_172 (dk_at dksX3_formatSpecies_0 14 rfl rfl)
theorem dX3_formatSpecies_15 : decode cX3_formatSpecies 15 = .ok (.aload_n 0, 1) := dk_42 (dk_at dksX3_formatSpecies_0 15 rfl rfl)
theorem dX3_formatSpecies_16 : decode cX3_formatSpecies 16 = .ok (.iconst 0, 1) := dk_3 (dk_at dksX3_formatSpecies_0 16 rfl rfl)
theorem dX3_formatSpecies_17 : decode cX3_formatSpecies 17 = .ok (.putfield 401, 3) := dk_181 1 145 (dk_at dksX3_formatSpecies_0 17 rfl rfl)
theorem dX3_formatSpecies_20 : decode cX3_formatSpecies 20 = .ok (.aload_n 0, 1) := dk_42 (dk_at dksX3_formatSpecies_0 20 rfl rfl)
theorem dX3_formatSpecies_21 : decode cX3_formatSpecies 21 = .ok (.aload_n 0, 1) := dk_42 (dk_at dksX3_formatSpecies_0 21 rfl rfl)
theorem dX3_formatSpecies_22 : decode cX3_formatSpecies 22 = .ok (.iload_n 1, 1) := dk_27 (dk_at dksX3_formatSpecies_0 22 rfl rfl)
theorem dX3_formatSpecies_23 : decode cX3_formatSpecies 23 = .ok (.iconst 0, 1) := dk_3 (dk_at dksX3_formatSpecies_0 23 rfl rfl)
theorem dX3_formatSpecies_24 : decode cX3_formatSpecies 24 = .ok (.invokevirtual 67, 3) := dk_182 0 67 (dk_at dksX3_formatSpecies_1 0 rfl rfl)
theorem dX3_formatSpecies_27 : decode cX3_formatSpecies 27 = .ok (.invokevirtual 404, 3) := dk_182 1 148 (dk_at dksX3_formatSpecies_1 3 rfl rfl)
theorem dX3_formatSpecies_30 : decode cX3_formatSpecies 30 = .ok (.aload_n 0, 1) := dk_42 (dk_at dksX3_formatSpecies_1 6 rfl rfl)
theorem dX3_formatSpecies_31 : decode cX3_formatSpecies 31 = .ok (.bipush 58, 2) := dk_16 58 (dk_at dksX3_formatSpecies_1 7 rfl rfl)
theorem dX3_formatSpecies_33 : decode cX3_formatSpecies 33 = .ok (.invokevirtual 407, 3) := dk_182 1 151 (dk_at dksX3_formatSpecies_1 9 rfl rfl)
theorem dX3_formatSpecies_36 : decode cX3_formatSpecies 36 = .ok (.iconst 0, 1) := dk_3 (dk_at dksX3_formatSpecies_1 12 rfl rfl)
theorem dX3_formatSpecies_37 : decode cX3_formatSpecies 37 = .ok (.istore_n 2, 1) := dk_61 (dk_at dksX3_formatSpecies_1 13 rfl rfl)
theorem dX3_formatSpecies_38 : decode cX3_formatSpecies 38 = .ok (.iload_n 2, 1) := dk_28 (dk_at dksX3_formatSpecies_1 14 rfl rfl)
theorem dX3_formatSpecies_39 : decode cX3_formatSpecies 39 = .ok (.aload_n 0, 1) := dk_42 (dk_at dksX3_formatSpecies_1 15 rfl rfl)
theorem dX3_formatSpecies_40 : decode cX3_formatSpecies 40 = .ok (.iload_n 1, 1) := dk_27 (dk_at dksX3_formatSpecies_1 16 rfl rfl)
theorem dX3_formatSpecies_41 : decode cX3_formatSpecies 41 = .ok (.invokevirtual 70, 3) := dk_182 0 70 (dk_at dksX3_formatSpecies_1 17 rfl rfl)
theorem dX3_formatSpecies_44 : decode cX3_formatSpecies 44 = .ok (.if_icmp .gt 25, 3) := dk_163 0 25 (dk_at dksX3_formatSpecies_1 20 rfl rfl)
theorem dX3_formatSpecies_47 : decode cX3_formatSpecies 47 = .ok (.aload_n 0, 1) := dk_42 (dk_at dksX3_formatSpecies_1 23 rfl rfl)
theorem dX3_formatSpecies_48 : decode cX3_formatSpecies 48 = .ok (.bipush 32, 2) := dk_16 32 (dk_at dksX3_formatSpecies_2 0 rfl rfl)
theorem dX3_formatSpecies_50 : decode cX3_formatSpecies 50 = .ok (.invokevirtual 407, 3) := dk_182 1 151 (dk_at dksX3_formatSpecies_2 2 rfl rfl)
theorem dX3_formatSpecies_53 : decode cX3_formatSpecies 53 = .ok (.aload_n 0, 1) := dk_42 (dk_at dksX3_formatSpecies_2 5 rfl rfl)
theorem dX3_formatSpecies_54 : decode cX3_formatSpecies 54 = .ok (.aload_n 0, 1) := dk_42 (dk_at dksX3_formatSpecies_2 6 rfl rfl)
theorem dX3_formatSpecies_55 : decode cX3_formatSpecies 55 = .ok (.iload_n 1, 1) := dk_27 (dk_at dksX3_formatSpecies_2 7 rfl rfl)
theorem dX3_formatSpecies_56 : decode cX3_formatSpecies 56 = .ok (.iload_n 2, 1) := dk_28 (dk_at dksX3_formatSpecies_2 8 rfl rfl)
theorem dX3_formatSpecies_57 : decode cX3_formatSpecies 57 = .ok (.invokevirtual 74, 3) := dk_182 0 74 (dk_at dksX3_formatSpecies_2 9 rfl rfl)
theorem dX3_formatSpecies_60 : decode cX3_formatSpecies 60 = .ok (.invokevirtual 410, 3) := dk_182 1 154 (dk_at dksX3_formatSpecies_2 12 rfl rfl)
theorem dX3_formatSpecies_63 : decode cX3_formatSpecies 63 = .ok (.iinc 2 1, 3) := dk_132 2 1 (dk_at dksX3_formatSpecies_2 15 rfl rfl)
theorem dX3_formatSpecies_66 : decode cX3_formatSpecies 66 = .ok (.goto (-28), 3) := dk_167 255 228 (dk_at dksX3_formatSpecies_2 18 rfl rfl)
theorem dX3_formatSpecies_69 : decode cX3_formatSpecies 69 = .ok (.aload_n 0, 1) := dk_42 (dk_at dksX3_formatSpecies_2 21 rfl rfl)
theorem dX3_formatSpecies_70 : decode cX3_formatSpecies 70 = .ok (.bipush 32, 2) := dk_16 32 (dk_at dksX3_formatSpecies_2 22 rfl rfl)
theorem dX3_formatSpecies_72 : decode cX3_formatSpecies 72 = .ok (.invokevirtual 407, 3) := dk_182 1 151 (dk_at dksX3_formatSpecies_3 0 rfl rfl)
theorem dX3_formatSpecies_75 : decode cX3_formatSpecies 75 = .ok (.aload_n 0, 1) := dk_42 (dk_at dksX3_formatSpecies_3 3 rfl rfl)
theorem dX3_formatSpecies_76 : decode cX3_formatSpecies 76 = .ok (.bipush 61, 2) := dk_16 61 (dk_at dksX3_formatSpecies_3 4 rfl rfl)
theorem dX3_formatSpecies_78 : decode cX3_formatSpecies 78 = .ok (.invokevirtual 407, 3) := dk_182 1 151 (dk_at dksX3_formatSpecies_3 6 rfl rfl)
theorem dX3_formatSpecies_81 : decode cX3_formatSpecies 81 = .ok (.aload_n 0, 1) := dk_42 (dk_at dksX3_formatSpecies_3 9 rfl rfl)
theorem dX3_formatSpecies_82 : decode cX3_formatSpecies 82 = .ok (.aload_n 0, 1) := dk_42 (dk_at dksX3_formatSpecies_3 10 rfl rfl)
theorem dX3_formatSpecies_83 : decode cX3_formatSpecies 83 = .ok (.iload_n 1, 1) := dk_27 (dk_at dksX3_formatSpecies_3 11 rfl rfl)
theorem dX3_formatSpecies_84 : decode cX3_formatSpecies 84 = .ok (.invokevirtual 104, 3) := dk_182 0 104 (dk_at dksX3_formatSpecies_3 12 rfl rfl)
theorem dX3_formatSpecies_87 : decode cX3_formatSpecies 87 = .ok (.invokevirtual 410, 3) := dk_182 1 154 (dk_at dksX3_formatSpecies_3 15 rfl rfl)
theorem dX3_formatSpecies_90 : decode cX3_formatSpecies 90 = .ok (.aload_n 0, 1) := dk_42 (dk_at dksX3_formatSpecies_3 18 rfl rfl)
theorem dX3_formatSpecies_91 : decode cX3_formatSpecies 91 = .ok (.iload_n 1, 1) := dk_27 (dk_at dksX3_formatSpecies_3 19 rfl rfl)
theorem dX3_formatSpecies_92 : decode cX3_formatSpecies 92 = .ok (.iconst 4, 1) := dk_7 (dk_at dksX3_formatSpecies_3 20 rfl rfl)
theorem dX3_formatSpecies_93 : decode cX3_formatSpecies 93 = .ok (.invokevirtual 67, 3) := dk_182 0 67 (dk_at dksX3_formatSpecies_3 21 rfl rfl)
theorem dX3_formatSpecies_96 : decode cX3_formatSpecies 96 = .ok (.ifCond .ne 8, 3) := dk_154 0 8 (dk_at dksX3_formatSpecies_4 0 rfl rfl)
theorem dX3_formatSpecies_99 : decode cX3_formatSpecies 99 = .ok (.aload_n 0, 1) := dk_42 (dk_at dksX3_formatSpecies_4 3 rfl rfl)
theorem dX3_formatSpecies_100 : decode cX3_formatSpecies 100 = .ok (.getfield 401, 3) := dk_180 1 145 (dk_at dksX3_formatSpecies_4 4 rfl rfl)
theorem dX3_formatSpecies_103 : decode cX3_formatSpecies 103 = .ok (.ireturn, 1) := dk_172 (dk_at dksX3_formatSpecies_4 7 rfl rfl)
theorem dX3_formatSpecies_104 : decode cX3_formatSpecies 104 = .ok (.aload_n 0, 1) := dk_42 (dk_at dksX3_formatSpecies_4 8 rfl rfl)
theorem dX3_formatSpecies_105 : decode cX3_formatSpecies 105 = .ok (.bipush 32, 2) := dk_16 32 (dk_at dksX3_formatSpecies_4 9 rfl rfl)
theorem dX3_formatSpecies_107 : decode cX3_formatSpecies 107 = .ok (.invokevirtual 407, 3) := dk_182 1 151 (dk_at dksX3_formatSpecies_4 11 rfl rfl)
theorem dX3_formatSpecies_110 : decode cX3_formatSpecies 110 = .ok (.aload_n 0, 1) := dk_42 (dk_at dksX3_formatSpecies_4 14 rfl rfl)
theorem dX3_formatSpecies_111 : decode cX3_formatSpecies 111 = .ok (.bipush 42, 2) := dk_16 42 (dk_at dksX3_formatSpecies_4 15 rfl rfl)
theorem dX3_formatSpecies_113 : decode cX3_formatSpecies 113 = .ok (.invokevirtual 407, 3) := dk_182 1 151 (dk_at dksX3_formatSpecies_4 17 rfl rfl)
theorem dX3_formatSpecies_116 : decode cX3_formatSpecies 116 = .ok (.aload_n 0, 1) := dk_42 (dk_at dksX3_formatSpecies_4 20 rfl rfl)
theorem dX3_formatSpecies_117 : decode cX3_formatSpecies 117 = .ok (.aload_n 0, 1) := dk_42 (dk_at dksX3_formatSpecies_4 21 rfl rfl)
theorem dX3_formatSpecies_118 : decode cX3_formatSpecies 118 = .ok (.iload_n 1, 1) := dk_27 (dk_at dksX3_formatSpecies_4 22 rfl rfl)
theorem dX3_formatSpecies_119 : decode cX3_formatSpecies 119 = .ok (.iconst 4, 1) := dk_7 (dk_at dksX3_formatSpecies_4 23 rfl rfl)
theorem dX3_formatSpecies_120 : decode cX3_formatSpecies 120 = .ok (.invokevirtual 67, 3) := dk_182 0 67 (dk_at dksX3_formatSpecies_5 0 rfl rfl)
theorem dX3_formatSpecies_123 : decode cX3_formatSpecies 123 = .ok (.invokevirtual 410, 3) := dk_182 1 154 (dk_at dksX3_formatSpecies_5 3 rfl rfl)
theorem dX3_formatSpecies_126 : decode cX3_formatSpecies 126 = .ok (.aload_n 0, 1) := dk_42 (dk_at dksX3_formatSpecies_5 6 rfl rfl)
theorem dX3_formatSpecies_127 : decode cX3_formatSpecies 127 = .ok (.getfield 401, 3) := dk_180 1 145 (dk_at dksX3_formatSpecies_5 7 rfl rfl)
theorem dX3_formatSpecies_130 : decode cX3_formatSpecies 130 = .ok (.ireturn, 1) := dk_172 (dk_at dksX3_formatSpecies_5 10 rfl rfl)
abbrev cX3_saysPart : ByteArray := prog_39_method_118_code
def yX3_saysPart : MethodName := ⟨RX3, "saysPart", "(IIII)V"⟩
def dkwX3_saysPart_0 : List UInt8 := [42, 27, 182, 1, 151, 42, 42, 28, 29, 21, 4, 182, 1, 87, 182, 1, 154, 177]
abbrev dktX3_saysPart_0 : List UInt8 := dkwX3_saysPart_0 ++ []
theorem dksX3_saysPart_0 : cX3_saysPart.data.toList.drop 0 = dktX3_saysPart_0 := by decide +kernel
theorem dX3_saysPart_0 : decode cX3_saysPart 0 = .ok (.aload_n 0, 1) := dk_42 (dk_at dksX3_saysPart_0 0 rfl rfl)
theorem dX3_saysPart_1 : decode cX3_saysPart 1 = .ok (.iload_n 1, 1) := dk_27 (dk_at dksX3_saysPart_0 1 rfl rfl)
theorem dX3_saysPart_2 : decode cX3_saysPart 2 = .ok (.invokevirtual 407, 3) := dk_182 1 151 (dk_at dksX3_saysPart_0 2 rfl rfl)
theorem dX3_saysPart_5 : decode cX3_saysPart 5 = .ok (.aload_n 0, 1) := dk_42 (dk_at dksX3_saysPart_0 5 rfl rfl)
theorem dX3_saysPart_6 : decode cX3_saysPart 6 = .ok (.aload_n 0, 1) := dk_42 (dk_at dksX3_saysPart_0 6 rfl rfl)
theorem dX3_saysPart_7 : decode cX3_saysPart 7 = .ok (.iload_n 2, 1) := dk_28 (dk_at dksX3_saysPart_0 7 rfl rfl)
theorem dX3_saysPart_8 : decode cX3_saysPart 8 = .ok (.iload_n 3, 1) := dk_29 (dk_at dksX3_saysPart_0 8 rfl rfl)
theorem dX3_saysPart_9 : decode cX3_saysPart 9 = .ok (.iload 4, 2) := dk_21 4 (dk_at dksX3_saysPart_0 9 rfl rfl)
theorem dX3_saysPart_11 : decode cX3_saysPart 11 = .ok (.invokevirtual 343, 3) := dk_182 1 87 (dk_at dksX3_saysPart_0 11 rfl rfl)
theorem dX3_saysPart_14 : decode cX3_saysPart 14 = .ok (.invokevirtual 410, 3) := dk_182 1 154 (dk_at dksX3_saysPart_0 14 rfl rfl)
theorem dX3_saysPart_17 : decode cX3_saysPart 17 = .ok (.return_, 1) := dk_177 (dk_at dksX3_saysPart_0 17 rfl rfl)
abbrev cX3_formatLedger : ByteArray := prog_39_method_119_code
def yX3_formatLedger : MethodName := ⟨RX3, "formatLedger", "(II)I"⟩
def dkwX3_formatLedger_5 : List UInt8 := [180, 1, 145, 172]
abbrev dktX3_formatLedger_5 : List UInt8 := dkwX3_formatLedger_5 ++ []
def dkwX3_formatLedger_4 : List UInt8 := [182, 1, 157, 42, 16, 45, 27, 29, 6, 182, 1, 157, 42, 16, 61, 27, 29, 8, 182, 1, 157, 42]
abbrev dktX3_formatLedger_4 : List UInt8 := dkwX3_formatLedger_4 ++ dktX3_formatLedger_5
def dkwX3_formatLedger_3 : List UInt8 := [16, 43, 27, 29, 4, 182, 1, 157, 42, 16, 43, 27, 29, 7, 182, 1, 157, 42, 16, 45, 27, 29, 5]
abbrev dktX3_formatLedger_3 : List UInt8 := dkwX3_formatLedger_3 ++ dktX3_formatLedger_4
def dkwX3_formatLedger_2 : List UInt8 := [181, 1, 145, 42, 28, 182, 1, 154, 42, 16, 58, 182, 1, 151, 42, 16, 32, 27, 29, 3, 182, 1, 157, 42]
abbrev dktX3_formatLedger_2 : List UInt8 := dkwX3_formatLedger_2 ++ dktX3_formatLedger_3
def dkwX3_formatLedger_1 : List UInt8 := [167, 0, 4, 3, 5, 182, 1, 6, 153, 0, 5, 3, 172, 28, 42, 182, 1, 81, 100, 62, 42, 3]
abbrev dktX3_formatLedger_1 : List UInt8 := dkwX3_formatLedger_1 ++ dktX3_formatLedger_2
def dkwX3_formatLedger_0 : List UInt8 := [42, 3, 181, 0, 3, 42, 27, 182, 1, 55, 154, 0, 24, 42, 42, 28, 182, 1, 84, 154, 0, 7, 4]
abbrev dktX3_formatLedger_0 : List UInt8 := dkwX3_formatLedger_0 ++ dktX3_formatLedger_1
theorem dksX3_formatLedger_0 : cX3_formatLedger.data.toList.drop 0 = dktX3_formatLedger_0 := by decide +kernel
theorem dksX3_formatLedger_1 : cX3_formatLedger.data.toList.drop 23 = dktX3_formatLedger_1 := dk_seg dksX3_formatLedger_0 23 rfl rfl
theorem dksX3_formatLedger_2 : cX3_formatLedger.data.toList.drop 45 = dktX3_formatLedger_2 := dk_seg dksX3_formatLedger_1 22 rfl rfl
theorem dksX3_formatLedger_3 : cX3_formatLedger.data.toList.drop 69 = dktX3_formatLedger_3 := dk_seg dksX3_formatLedger_2 24 rfl rfl
theorem dksX3_formatLedger_4 : cX3_formatLedger.data.toList.drop 92 = dktX3_formatLedger_4 := dk_seg dksX3_formatLedger_3 23 rfl rfl
theorem dksX3_formatLedger_5 : cX3_formatLedger.data.toList.drop 114 = dktX3_formatLedger_5 := dk_seg dksX3_formatLedger_4 22 rfl rfl
theorem dX3_formatLedger_0 : decode cX3_formatLedger 0 = .ok (.aload_n 0, 1) := dk_42 (dk_at dksX3_formatLedger_0 0 rfl rfl)
theorem dX3_formatLedger_1 : decode cX3_formatLedger 1 = .ok (.iconst 0, 1) := dk_3 (dk_at dksX3_formatLedger_0 1 rfl rfl)
theorem dX3_formatLedger_2 : decode cX3_formatLedger 2 = .ok (.putfield 3, 3) := dk_181 0 3 (dk_at dksX3_formatLedger_0 2 rfl rfl)
theorem dX3_formatLedger_5 : decode cX3_formatLedger 5 = .ok (.aload_n 0, 1) := dk_42 (dk_at dksX3_formatLedger_0 5 rfl rfl)
theorem dX3_formatLedger_6 : decode cX3_formatLedger 6 = .ok (.iload_n 1, 1) := dk_27 (dk_at dksX3_formatLedger_0 6 rfl rfl)
theorem dX3_formatLedger_7 : decode cX3_formatLedger 7 = .ok (.invokevirtual 311, 3) := dk_182 1 55 (dk_at dksX3_formatLedger_0 7 rfl rfl)
theorem dX3_formatLedger_10 : decode cX3_formatLedger 10 = .ok (.ifCond .ne 24, 3) := dk_154 0 24 (dk_at dksX3_formatLedger_0 10 rfl rfl)
theorem dX3_formatLedger_13 : decode cX3_formatLedger 13 = .ok (.aload_n 0, 1) := dk_42 (dk_at dksX3_formatLedger_0 13 rfl rfl)
theorem dX3_formatLedger_14 : decode cX3_formatLedger 14 = .ok (.aload_n 0, 1) := dk_42 (dk_at dksX3_formatLedger_0 14 rfl rfl)
theorem dX3_formatLedger_15 : decode cX3_formatLedger 15 = .ok (.iload_n 2, 1) := dk_28 (dk_at dksX3_formatLedger_0 15 rfl rfl)
theorem dX3_formatLedger_16 : decode cX3_formatLedger 16 = .ok (.invokevirtual 340, 3) := dk_182 1 84 (dk_at dksX3_formatLedger_0 16 rfl rfl)
theorem dX3_formatLedger_19 : decode cX3_formatLedger 19 = .ok (.ifCond .ne 7, 3) := dk_154 0 7 (dk_at dksX3_formatLedger_0 19 rfl rfl)
theorem dX3_formatLedger_22 : decode cX3_formatLedger 22 = .ok (.iconst 1, 1) := dk_4 (dk_at dksX3_formatLedger_0 22 rfl rfl)
theorem dX3_formatLedger_23 : decode cX3_formatLedger 23 = .ok (.goto 4, 3) := dk_167 0 4 (dk_at dksX3_formatLedger_1 0 rfl rfl)
theorem dX3_formatLedger_26 : decode cX3_formatLedger 26 = .ok (.iconst 0, 1) := dk_3 (dk_at dksX3_formatLedger_1 3 rfl rfl)
theorem dX3_formatLedger_27 : decode cX3_formatLedger 27 = .ok (.iconst 2, 1) := dk_5 (dk_at dksX3_formatLedger_1 4 rfl rfl)
theorem dX3_formatLedger_28 : decode cX3_formatLedger 28 = .ok (.invokevirtual 262, 3) := dk_182 1 6 (dk_at dksX3_formatLedger_1 5 rfl rfl)
theorem dX3_formatLedger_31 : decode cX3_formatLedger 31 = .ok (.ifCond .eq 5, 3) := dk_153 0 5 (dk_at dksX3_formatLedger_1 8 rfl rfl)
theorem dX3_formatLedger_34 : decode cX3_formatLedger 34 = .ok (.iconst 0, 1) := dk_3 (dk_at dksX3_formatLedger_1 11 rfl rfl)
theorem dX3_formatLedger_35 : decode cX3_formatLedger 35 = .ok (.ireturn, 1) := dk_172 (dk_at dksX3_formatLedger_1 12 rfl rfl)
theorem dX3_formatLedger_36 : decode cX3_formatLedger 36 = .ok (.iload_n 2, 1) := dk_28 (dk_at dksX3_formatLedger_1 13 rfl rfl)
theorem dX3_formatLedger_37 : decode cX3_formatLedger 37 = .ok (.aload_n 0, 1) := dk_42 (dk_at dksX3_formatLedger_1 14 rfl rfl)
theorem dX3_formatLedger_38 : decode cX3_formatLedger 38 = .ok (.invokevirtual 337, 3) := dk_182 1 81 (dk_at dksX3_formatLedger_1 15 rfl rfl)
theorem dX3_formatLedger_41 : decode cX3_formatLedger 41 = .ok (.isub, 1) := dk_100 (dk_at dksX3_formatLedger_1 18 rfl rfl)
theorem dX3_formatLedger_42 : decode cX3_formatLedger 42 = .ok (.istore_n 3, 1) := dk_62 (dk_at dksX3_formatLedger_1 19 rfl rfl)
theorem dX3_formatLedger_43 : decode cX3_formatLedger 43 = .ok (.aload_n 0, 1) := dk_42 (dk_at dksX3_formatLedger_1 20 rfl rfl)
theorem dX3_formatLedger_44 : decode cX3_formatLedger 44 = .ok (.iconst 0, 1) := dk_3 (dk_at dksX3_formatLedger_1 21 rfl rfl)
theorem dX3_formatLedger_45 : decode cX3_formatLedger 45 = .ok (.putfield 401, 3) := dk_181 1 145 (dk_at dksX3_formatLedger_2 0 rfl rfl)
theorem dX3_formatLedger_48 : decode cX3_formatLedger 48 = .ok (.aload_n 0, 1) := dk_42 (dk_at dksX3_formatLedger_2 3 rfl rfl)
theorem dX3_formatLedger_49 : decode cX3_formatLedger 49 = .ok (.iload_n 2, 1) := dk_28 (dk_at dksX3_formatLedger_2 4 rfl rfl)
theorem dX3_formatLedger_50 : decode cX3_formatLedger 50 = .ok (.invokevirtual 410, 3) := dk_182 1 154 (dk_at dksX3_formatLedger_2 5 rfl rfl)
theorem dX3_formatLedger_53 : decode cX3_formatLedger 53 = .ok (.aload_n 0, 1) := dk_42 (dk_at dksX3_formatLedger_2 8 rfl rfl)
theorem dX3_formatLedger_54 : decode cX3_formatLedger 54 = .ok (.bipush 58, 2) := dk_16 58 (dk_at dksX3_formatLedger_2 9 rfl rfl)
theorem dX3_formatLedger_56 : decode cX3_formatLedger 56 = .ok (.invokevirtual 407, 3) := dk_182 1 151 (dk_at dksX3_formatLedger_2 11 rfl rfl)
theorem dX3_formatLedger_59 : decode cX3_formatLedger 59 = .ok (.aload_n 0, 1) := dk_42 (dk_at dksX3_formatLedger_2 14 rfl rfl)
theorem dX3_formatLedger_60 : decode cX3_formatLedger 60 = .ok (.bipush 32, 2) := dk_16 32 (dk_at dksX3_formatLedger_2 15 rfl rfl)
theorem dX3_formatLedger_62 : decode cX3_formatLedger 62 = .ok (.iload_n 1, 1) := dk_27 (dk_at dksX3_formatLedger_2 17 rfl rfl)
theorem dX3_formatLedger_63 : decode cX3_formatLedger 63 = .ok (.iload_n 3, 1) := dk_29 (dk_at dksX3_formatLedger_2 18 rfl rfl)
theorem dX3_formatLedger_64 : decode cX3_formatLedger 64 = .ok (.iconst 0, 1) := dk_3 (dk_at dksX3_formatLedger_2 19 rfl rfl)
theorem dX3_formatLedger_65 : decode cX3_formatLedger 65 = .ok (.invokevirtual 413, 3) := dk_182 1 157 (dk_at dksX3_formatLedger_2 20 rfl rfl)
theorem dX3_formatLedger_68 : decode cX3_formatLedger 68 = .ok (.aload_n 0, 1) := dk_42 (dk_at dksX3_formatLedger_2 23 rfl rfl)
theorem dX3_formatLedger_69 : decode cX3_formatLedger 69 = .ok (.bipush 43, 2) := dk_16 43 (dk_at dksX3_formatLedger_3 0 rfl rfl)
theorem dX3_formatLedger_71 : decode cX3_formatLedger 71 = .ok (.iload_n 1, 1) := dk_27 (dk_at dksX3_formatLedger_3 2 rfl rfl)
theorem dX3_formatLedger_72 : decode cX3_formatLedger 72 = .ok (.iload_n 3, 1) := dk_29 (dk_at dksX3_formatLedger_3 3 rfl rfl)
theorem dX3_formatLedger_73 : decode cX3_formatLedger 73 = .ok (.iconst 1, 1) := dk_4 (dk_at dksX3_formatLedger_3 4 rfl rfl)
theorem dX3_formatLedger_74 : decode cX3_formatLedger 74 = .ok (.invokevirtual 413, 3) := dk_182 1 157 (dk_at dksX3_formatLedger_3 5 rfl rfl)
theorem dX3_formatLedger_77 : decode cX3_formatLedger 77 = .ok (.aload_n 0, 1) := dk_42 (dk_at dksX3_formatLedger_3 8 rfl rfl)
theorem dX3_formatLedger_78 : decode cX3_formatLedger 78 = .ok (.bipush 43, 2) := dk_16 43 (dk_at dksX3_formatLedger_3 9 rfl rfl)
theorem dX3_formatLedger_80 : decode cX3_formatLedger 80 = .ok (.iload_n 1, 1) := dk_27 (dk_at dksX3_formatLedger_3 11 rfl rfl)
theorem dX3_formatLedger_81 : decode cX3_formatLedger 81 = .ok (.iload_n 3, 1) := dk_29 (dk_at dksX3_formatLedger_3 12 rfl rfl)
theorem dX3_formatLedger_82 : decode cX3_formatLedger 82 = .ok (.iconst 4, 1) := dk_7 (dk_at dksX3_formatLedger_3 13 rfl rfl)
theorem dX3_formatLedger_83 : decode cX3_formatLedger 83 = .ok (.invokevirtual 413, 3) := dk_182 1 157 (dk_at dksX3_formatLedger_3 14 rfl rfl)
theorem dX3_formatLedger_86 : decode cX3_formatLedger 86 = .ok (.aload_n 0, 1) := dk_42 (dk_at dksX3_formatLedger_3 17 rfl rfl)
theorem dX3_formatLedger_87 : decode cX3_formatLedger 87 = .ok (.bipush 45, 2) := dk_16 45 (dk_at dksX3_formatLedger_3 18 rfl rfl)
theorem dX3_formatLedger_89 : decode cX3_formatLedger 89 = .ok (.iload_n 1, 1) := dk_27 (dk_at dksX3_formatLedger_3 20 rfl rfl)
theorem dX3_formatLedger_90 : decode cX3_formatLedger 90 = .ok (.iload_n 3, 1) := dk_29 (dk_at dksX3_formatLedger_3 21 rfl rfl)
theorem dX3_formatLedger_91 : decode cX3_formatLedger 91 = .ok (.iconst 2, 1) := dk_5 (dk_at dksX3_formatLedger_3 22 rfl rfl)
theorem dX3_formatLedger_92 : decode cX3_formatLedger 92 = .ok (.invokevirtual 413, 3) := dk_182 1 157 (dk_at dksX3_formatLedger_4 0 rfl rfl)
theorem dX3_formatLedger_95 : decode cX3_formatLedger 95 = .ok (.aload_n 0, 1) := dk_42 (dk_at dksX3_formatLedger_4 3 rfl rfl)
theorem dX3_formatLedger_96 : decode cX3_formatLedger 96 = .ok (.bipush 45, 2) := dk_16 45 (dk_at dksX3_formatLedger_4 4 rfl rfl)
theorem dX3_formatLedger_98 : decode cX3_formatLedger 98 = .ok (.iload_n 1, 1) := dk_27 (dk_at dksX3_formatLedger_4 6 rfl rfl)
theorem dX3_formatLedger_99 : decode cX3_formatLedger 99 = .ok (.iload_n 3, 1) := dk_29 (dk_at dksX3_formatLedger_4 7 rfl rfl)
theorem dX3_formatLedger_100 : decode cX3_formatLedger 100 = .ok (.iconst 3, 1) := dk_6 (dk_at dksX3_formatLedger_4 8 rfl rfl)
theorem dX3_formatLedger_101 : decode cX3_formatLedger 101 = .ok (.invokevirtual 413, 3) := dk_182 1 157 (dk_at dksX3_formatLedger_4 9 rfl rfl)
theorem dX3_formatLedger_104 : decode cX3_formatLedger 104 = .ok (.aload_n 0, 1) := dk_42 (dk_at dksX3_formatLedger_4 12 rfl rfl)
theorem dX3_formatLedger_105 : decode cX3_formatLedger 105 = .ok (.bipush 61, 2) := dk_16 61 (dk_at dksX3_formatLedger_4 13 rfl rfl)
theorem dX3_formatLedger_107 : decode cX3_formatLedger 107 = .ok (.iload_n 1, 1) := dk_27 (dk_at dksX3_formatLedger_4 15 rfl rfl)
theorem dX3_formatLedger_108 : decode cX3_formatLedger 108 = .ok (.iload_n 3, 1) := dk_29 (dk_at dksX3_formatLedger_4 16 rfl rfl)
theorem dX3_formatLedger_109 : decode cX3_formatLedger 109 = .ok (.iconst 5, 1) := dk_8 (dk_at dksX3_formatLedger_4 17 rfl rfl)
theorem dX3_formatLedger_110 : decode cX3_formatLedger 110 = .ok (.invokevirtual 413, 3) := dk_182 1 157 (dk_at dksX3_formatLedger_4 18 rfl rfl)
theorem dX3_formatLedger_113 : decode cX3_formatLedger 113 = .ok (.aload_n 0, 1) := dk_42 (dk_at dksX3_formatLedger_4 21 rfl rfl)
theorem dX3_formatLedger_114 : decode cX3_formatLedger 114 = .ok (.getfield 401, 3) := dk_180 1 145 (dk_at dksX3_formatLedger_5 0 rfl rfl)
theorem dX3_formatLedger_117 : decode cX3_formatLedger 117 = .ok (.ireturn, 1) := dk_172 (dk_at dksX3_formatLedger_5 3 rfl rfl)
abbrev cX3_formattedByte : ByteArray := prog_39_method_120_code
def yX3_formattedByte : MethodName := ⟨RX3, "formattedByte", "(I)I"⟩
def dkwX3_formattedByte_1 : List UInt8 := [180, 0, 50, 27, 51, 167, 0, 4, 2, 172]
abbrev dktX3_formattedByte_1 : List UInt8 := dkwX3_formattedByte_1 ++ []
def dkwX3_formattedByte_0 : List UInt8 := [42, 3, 181, 0, 3, 27, 133, 9, 42, 180, 1, 145, 4, 100, 133, 184, 0, 167, 153, 0, 12, 42]
abbrev dktX3_formattedByte_0 : List UInt8 := dkwX3_formattedByte_0 ++ dktX3_formattedByte_1
theorem dksX3_formattedByte_0 : cX3_formattedByte.data.toList.drop 0 = dktX3_formattedByte_0 := by decide +kernel
theorem dksX3_formattedByte_1 : cX3_formattedByte.data.toList.drop 22 = dktX3_formattedByte_1 := dk_seg dksX3_formattedByte_0 22 rfl rfl
theorem dX3_formattedByte_0 : decode cX3_formattedByte 0 = .ok (.aload_n 0, 1) := dk_42 (dk_at dksX3_formattedByte_0 0 rfl rfl)
theorem dX3_formattedByte_1 : decode cX3_formattedByte 1 = .ok (.iconst 0, 1) := dk_3 (dk_at dksX3_formattedByte_0 1 rfl rfl)
theorem dX3_formattedByte_2 : decode cX3_formattedByte 2 = .ok (.putfield 3, 3) := dk_181 0 3 (dk_at dksX3_formattedByte_0 2 rfl rfl)
theorem dX3_formattedByte_5 : decode cX3_formattedByte 5 = .ok (.iload_n 1, 1) := dk_27 (dk_at dksX3_formattedByte_0 5 rfl rfl)
theorem dX3_formattedByte_6 : decode cX3_formattedByte 6 = .ok (.i2l, 1) := dk_133 (dk_at dksX3_formattedByte_0 6 rfl rfl)
theorem dX3_formattedByte_7 : decode cX3_formattedByte 7 = .ok (.lconst 0, 1) := dk_9 (dk_at dksX3_formattedByte_0 7 rfl rfl)
theorem dX3_formattedByte_8 : decode cX3_formattedByte 8 = .ok (.aload_n 0, 1) := dk_42 (dk_at dksX3_formattedByte_0 8 rfl rfl)
theorem dX3_formattedByte_9 : decode cX3_formattedByte 9 = .ok (.getfield 401, 3) := dk_180 1 145 (dk_at dksX3_formattedByte_0 9 rfl rfl)
theorem dX3_formattedByte_12 : decode cX3_formattedByte 12 = .ok (.iconst 1, 1) := dk_4 (dk_at dksX3_formattedByte_0 12 rfl rfl)
theorem dX3_formattedByte_13 : decode cX3_formattedByte 13 = .ok (.isub, 1) := dk_100 (dk_at dksX3_formattedByte_0 13 rfl rfl)
theorem dX3_formattedByte_14 : decode cX3_formattedByte 14 = .ok (.i2l, 1) := dk_133 (dk_at dksX3_formattedByte_0 14 rfl rfl)
theorem dX3_formattedByte_15 : decode cX3_formattedByte 15 = .ok (.invokestatic 167, 3) := dk_184 0 167 (dk_at dksX3_formattedByte_0 15 rfl rfl)
theorem dX3_formattedByte_18 : decode cX3_formattedByte 18 = .ok (.ifCond .eq 12, 3) := dk_153 0 12 (dk_at dksX3_formattedByte_0 18 rfl rfl)
theorem dX3_formattedByte_21 : decode cX3_formattedByte 21 = .ok (.aload_n 0, 1) := dk_42 (dk_at dksX3_formattedByte_0 21 rfl rfl)
theorem dX3_formattedByte_22 : decode cX3_formattedByte 22 = .ok (.getfield 50, 3) := dk_180 0 50 (dk_at dksX3_formattedByte_1 0 rfl rfl)
theorem dX3_formattedByte_25 : decode cX3_formattedByte 25 = .ok (.iload_n 1, 1) := dk_27 (dk_at dksX3_formattedByte_1 3 rfl rfl)
theorem dX3_formattedByte_26 : decode cX3_formattedByte 26 = .ok (.baload, 1) := dk_51 (dk_at dksX3_formattedByte_1 4 rfl rfl)
theorem dX3_formattedByte_27 : decode cX3_formattedByte 27 = .ok (.goto 4, 3) := dk_167 0 4 (dk_at dksX3_formattedByte_1 5 rfl rfl)
theorem dX3_formattedByte_30 : decode cX3_formattedByte 30 = .ok (.iconst (-1), 1) := dk_2 (dk_at dksX3_formattedByte_1 8 rfl rfl)
theorem dX3_formattedByte_31 : decode cX3_formattedByte 31 = .ok (.ireturn, 1) := dk_172 (dk_at dksX3_formattedByte_1 9 rfl rfl)
theorem q132 : (Jvm.Cond.initialized "java/lang/String") ∈ lw_all := lw_g (lw_at lw_m1 12 rfl) rfl
theorem q135 : (Jvm.Cond.initialized "java/lang/Math") ∈ lw_all := lw_g (lw_at lw_m1 15 rfl) rfl
theorem q138 : (Jvm.Cond.initialized "jdk/internal/util/Preconditions") ∈ lw_all := lw_g (lw_at lw_m1 18 rfl) rfl
theorem q139 : (Jvm.Cond.initialized "java/lang/StringLatin1") ∈ lw_all := lw_g (lw_at lw_m1 19 rfl) rfl
theorem q144 : (Jvm.Cond.initialized "ReserveLedgerModel") ∈ lw_all := lw_g (lw_at lw_m1 24 rfl) rfl
theorem q200 : (Jvm.Cond.instanceMethod ({ cls := "java/lang/Object", name := "<init>", desc := "()V" } : Jvm.MethodName)) ∈ lw_all := lw_g (lw_at lw_m1 80 rfl) rfl
theorem q301 : (Jvm.Cond.arrayClass Jvm.ClassFile.FieldType.byte) ∈ lw_all := lw_g (lw_at lw_m1 181 rfl) rfl
theorem q326 : (Jvm.Cond.static ({ cls := "java/lang/Math", name := "max", desc := "(II)I" } : Jvm.MethodName)) ∈ lw_all := lw_g (lw_at lw_m1 206 rfl) rfl
theorem q327 : (Jvm.Cond.code ({ cls := "java/lang/Math", name := "max", desc := "(II)I" } : Jvm.MethodName) prog_56_method_65_code (2 : Nat) (Option.some Jvm.ClassFile.FieldType.int)) ∈ lw_all := lw_g (lw_at lw_m1 207 rfl) rfl
theorem q344 : (Jvm.Cond.static ({ cls := "java/lang/Math", name := "min", desc := "(II)I" } : Jvm.MethodName)) ∈ lw_all := lw_g (lw_at lw_m1 224 rfl) rfl
theorem q345 : (Jvm.Cond.code ({ cls := "java/lang/Math", name := "min", desc := "(II)I" } : Jvm.MethodName) prog_56_method_69_code (2 : Nat) (Option.some Jvm.ClassFile.FieldType.int)) ∈ lw_all := lw_g (lw_at lw_m1 225 rfl) rfl
theorem q366 : (Jvm.Cond.fieldLink "java/lang/String" (1053 : Nat) "jdk/internal/util/Preconditions" "SIOOBE_FORMATTER" "Ljava/util/function/BiFunction;") ∈ lw_all := lw_g (lw_at lw_m2 6 rfl) rfl
theorem q381 : (Jvm.Cond.instanceMethod ({ cls := "java/lang/String", name := "length", desc := "()I" } : Jvm.MethodName)) ∈ lw_all := lw_g (lw_at lw_m2 21 rfl) rfl
theorem q382 : (Jvm.Cond.selects "java/lang/String" ({ cls := "java/lang/String", name := "length", desc := "()I" } : Jvm.MethodName) ({ cls := "java/lang/String", name := "length", desc := "()I" } : Jvm.MethodName)) ∈ lw_all := lw_g (lw_at lw_m2 22 rfl) rfl
theorem q383 : (Jvm.Cond.code ({ cls := "java/lang/String", name := "length", desc := "()I" } : Jvm.MethodName) prog_59_method_54_code (1 : Nat) (Option.some Jvm.ClassFile.FieldType.int)) ∈ lw_all := lw_g (lw_at lw_m2 23 rfl) rfl
theorem q384 : (Jvm.Cond.methodLink "java/lang/String" (335 : Nat) ({ cls := "java/lang/String", name := "coder", desc := "()B" } : Jvm.MethodName)) ∈ lw_all := lw_g (lw_at lw_m2 24 rfl) rfl
theorem q385 : (Jvm.Cond.instanceMethod ({ cls := "java/lang/String", name := "coder", desc := "()B" } : Jvm.MethodName)) ∈ lw_all := lw_g (lw_at lw_m2 25 rfl) rfl
theorem q386 : (Jvm.Cond.selects "java/lang/String" ({ cls := "java/lang/String", name := "coder", desc := "()B" } : Jvm.MethodName) ({ cls := "java/lang/String", name := "coder", desc := "()B" } : Jvm.MethodName)) ∈ lw_all := lw_g (lw_at lw_m2 26 rfl) rfl
theorem q387 : (Jvm.Cond.code ({ cls := "java/lang/String", name := "coder", desc := "()B" } : Jvm.MethodName) prog_59_method_152_code (1 : Nat) (Option.some Jvm.ClassFile.FieldType.byte)) ∈ lw_all := lw_g (lw_at lw_m2 27 rfl) rfl
theorem q388 : (Jvm.Cond.fieldLink "java/lang/String" (38 : Nat) "java/lang/String" "COMPACT_STRINGS" "Z") ∈ lw_all := lw_g (lw_at lw_m2 28 rfl) rfl
theorem q529 : (Jvm.Cond.fieldLink "java/lang/String" (9 : Nat) "java/lang/String" "value" "[B") ∈ lw_all := lw_g (lw_at lw_m2 169 rfl) rfl
theorem q530 : (Jvm.Cond.fieldLink "java/lang/String" (15 : Nat) "java/lang/String" "coder" "B") ∈ lw_all := lw_g (lw_at lw_m2 170 rfl) rfl
theorem q678 : (Jvm.Cond.static ({ cls := "java/lang/String", name := "checkIndex", desc := "(II)V" } : Jvm.MethodName)) ∈ lw_all := lw_g (lw_at lw_m3 78 rfl) rfl
theorem q679 : (Jvm.Cond.code ({ cls := "java/lang/String", name := "checkIndex", desc := "(II)V" } : Jvm.MethodName) prog_59_method_155_code (2 : Nat) (Option.none : Option Jvm.ClassFile.FieldType)) ∈ lw_all := lw_g (lw_at lw_m3 79 rfl) rfl
theorem q680 : (Jvm.Cond.methodLink "java/lang/String" (1059 : Nat) ({ cls := "jdk/internal/util/Preconditions", name := "checkIndex", desc := "(IILjava/util/function/BiFunction;)I" } : Jvm.MethodName)) ∈ lw_all := lw_g (lw_at lw_m3 80 rfl) rfl
theorem q681 : (Jvm.Cond.static ({ cls := "jdk/internal/util/Preconditions", name := "checkIndex", desc := "(IILjava/util/function/BiFunction;)I" } : Jvm.MethodName)) ∈ lw_all := lw_g (lw_at lw_m3 81 rfl) rfl
theorem q682 : (Jvm.Cond.code ({ cls := "jdk/internal/util/Preconditions", name := "checkIndex", desc := "(IILjava/util/function/BiFunction;)I" } : Jvm.MethodName) prog_116_method_11_code (3 : Nat) (Option.some Jvm.ClassFile.FieldType.int)) ∈ lw_all := lw_g (lw_at lw_m3 82 rfl) rfl
theorem q1724 : (Jvm.Cond.instanceMethod ({ cls := "java/lang/String", name := "charAt", desc := "(I)C" } : Jvm.MethodName)) ∈ lw_all := lw_g (lw_at lw_m7 164 rfl) rfl
theorem q1725 : (Jvm.Cond.selects "java/lang/String" ({ cls := "java/lang/String", name := "charAt", desc := "(I)C" } : Jvm.MethodName) ({ cls := "java/lang/String", name := "charAt", desc := "(I)C" } : Jvm.MethodName)) ∈ lw_all := lw_g (lw_at lw_m7 165 rfl) rfl
theorem q1726 : (Jvm.Cond.code ({ cls := "java/lang/String", name := "charAt", desc := "(I)C" } : Jvm.MethodName) prog_59_method_56_code (2 : Nat) (Option.some Jvm.ClassFile.FieldType.char)) ∈ lw_all := lw_g (lw_at lw_m7 166 rfl) rfl
theorem q1727 : (Jvm.Cond.methodLink "java/lang/String" (492 : Nat) ({ cls := "java/lang/String", name := "isLatin1", desc := "()Z" } : Jvm.MethodName)) ∈ lw_all := lw_g (lw_at lw_m7 167 rfl) rfl
theorem q1728 : (Jvm.Cond.instanceMethod ({ cls := "java/lang/String", name := "isLatin1", desc := "()Z" } : Jvm.MethodName)) ∈ lw_all := lw_g (lw_at lw_m7 168 rfl) rfl
theorem q1729 : (Jvm.Cond.selects "java/lang/String" ({ cls := "java/lang/String", name := "isLatin1", desc := "()Z" } : Jvm.MethodName) ({ cls := "java/lang/String", name := "isLatin1", desc := "()Z" } : Jvm.MethodName)) ∈ lw_all := lw_g (lw_at lw_m7 169 rfl) rfl
theorem q1730 : (Jvm.Cond.code ({ cls := "java/lang/String", name := "isLatin1", desc := "()Z" } : Jvm.MethodName) prog_59_method_154_code (1 : Nat) (Option.some Jvm.ClassFile.FieldType.boolean)) ∈ lw_all := lw_g (lw_at lw_m7 170 rfl) rfl
theorem q1731 : (Jvm.Cond.methodLink "java/lang/String" (495 : Nat) ({ cls := "java/lang/StringLatin1", name := "charAt", desc := "([BI)C" } : Jvm.MethodName)) ∈ lw_all := lw_g (lw_at lw_m7 171 rfl) rfl
theorem q1732 : (Jvm.Cond.static ({ cls := "java/lang/StringLatin1", name := "charAt", desc := "([BI)C" } : Jvm.MethodName)) ∈ lw_all := lw_g (lw_at lw_m7 172 rfl) rfl
theorem q1733 : (Jvm.Cond.code ({ cls := "java/lang/StringLatin1", name := "charAt", desc := "([BI)C" } : Jvm.MethodName) prog_61_method_2_code (2 : Nat) (Option.some Jvm.ClassFile.FieldType.char)) ∈ lw_all := lw_g (lw_at lw_m7 173 rfl) rfl
theorem q1734 : (Jvm.Cond.methodLink "java/lang/StringLatin1" (9 : Nat) ({ cls := "java/lang/String", name := "checkIndex", desc := "(II)V" } : Jvm.MethodName)) ∈ lw_all := lw_g (lw_at lw_m7 174 rfl) rfl
theorem q1878 : (Jvm.Cond.arrayClass Jvm.ClassFile.FieldType.int) ∈ lw_all := lw_g (lw_at lw_m8 78 rfl) rfl
theorem q2423 : (Jvm.Cond.static ({ cls := "java/lang/Math", name := "min", desc := "(JJ)J" } : Jvm.MethodName)) ∈ lw_all := lw_g (lw_at lw_m10 143 rfl) rfl
theorem q2424 : (Jvm.Cond.code ({ cls := "java/lang/Math", name := "min", desc := "(JJ)J" } : Jvm.MethodName) prog_56_method_70_code (4 : Nat) (Option.some Jvm.ClassFile.FieldType.long)) ∈ lw_all := lw_g (lw_at lw_m10 144 rfl) rfl
theorem q2429 : (Jvm.Cond.static ({ cls := "java/lang/Math", name := "max", desc := "(JJ)J" } : Jvm.MethodName)) ∈ lw_all := lw_g (lw_at lw_m10 149 rfl) rfl
theorem q2430 : (Jvm.Cond.code ({ cls := "java/lang/Math", name := "max", desc := "(JJ)J" } : Jvm.MethodName) prog_56_method_66_code (4 : Nat) (Option.some Jvm.ClassFile.FieldType.long)) ∈ lw_all := lw_g (lw_at lw_m10 150 rfl) rfl
theorem q3388 : (Jvm.Cond.methodLink "ReserveLedgerModel" (7 : Nat) ({ cls := "java/lang/Object", name := "<init>", desc := "()V" } : Jvm.MethodName)) ∈ lw_all := lw_g (lw_at lw_m14 148 rfl) rfl
theorem q3389 : (Jvm.Cond.constant "ReserveLedgerModel" (23 : Nat) (280000 : Int32)) ∈ lw_all := lw_g (lw_at lw_m14 149 rfl) rfl
theorem q3390 : (Jvm.Cond.methodLink "ReserveLedgerModel" (53 : Nat) ({ cls := "ReserveLedgerModel", name := "begins", desc := "()V" } : Jvm.MethodName)) ∈ lw_all := lw_g (lw_at lw_m14 150 rfl) rfl
theorem q3392 : (Jvm.Cond.instanceMethod ({ cls := "ReserveLedgerModel", name := "begins", desc := "()V" } : Jvm.MethodName)) ∈ lw_all := lw_g (lw_at lw_m14 152 rfl) rfl
theorem q3393 : (Jvm.Cond.code ({ cls := "ReserveLedgerModel", name := "begins", desc := "()V" } : Jvm.MethodName) prog_39_method_5_code (2 : Nat) (Option.none : Option Jvm.ClassFile.FieldType)) ∈ lw_all := lw_g (lw_at lw_m14 153 rfl) rfl
theorem q3394 : (Jvm.Cond.fieldLink "ReserveLedgerModel" (3 : Nat) "ReserveLedgerModel" "thrown" "I") ∈ lw_all := lw_g (lw_at lw_m14 154 rfl) rfl
theorem q3395 : (Jvm.Cond.fieldLink "ReserveLedgerModel" (13 : Nat) "ReserveLedgerModel" "now" "[I") ∈ lw_all := lw_g (lw_at lw_m14 155 rfl) rfl
theorem q3396 : (Jvm.Cond.fieldLink "ReserveLedgerModel" (17 : Nat) "ReserveLedgerModel" "aside" "[I") ∈ lw_all := lw_g (lw_at lw_m14 156 rfl) rfl
theorem q3397 : (Jvm.Cond.fieldLink "ReserveLedgerModel" (20 : Nat) "ReserveLedgerModel" "past" "[I") ∈ lw_all := lw_g (lw_at lw_m14 157 rfl) rfl
theorem q3398 : (Jvm.Cond.fieldLink "ReserveLedgerModel" (56 : Nat) "ReserveLedgerModel" "depth" "I") ∈ lw_all := lw_g (lw_at lw_m14 158 rfl) rfl
theorem q3399 : (Jvm.Cond.fieldLink "ReserveLedgerModel" (24 : Nat) "ReserveLedgerModel" "ledgers" "[I") ∈ lw_all := lw_g (lw_at lw_m14 159 rfl) rfl
theorem q3400 : (Jvm.Cond.fieldLink "ReserveLedgerModel" (27 : Nat) "ReserveLedgerModel" "formulas" "[I") ∈ lw_all := lw_g (lw_at lw_m14 160 rfl) rfl
theorem q3401 : (Jvm.Cond.fieldLink "ReserveLedgerModel" (30 : Nat) "ReserveLedgerModel" "readFormulas" "[I") ∈ lw_all := lw_g (lw_at lw_m14 161 rfl) rfl
theorem q3402 : (Jvm.Cond.fieldLink "ReserveLedgerModel" (33 : Nat) "ReserveLedgerModel" "stack" "[J") ∈ lw_all := lw_g (lw_at lw_m14 162 rfl) rfl
theorem q3403 : (Jvm.Cond.fieldLink "ReserveLedgerModel" (96 : Nat) "ReserveLedgerModel" "isFaulty" "Z") ∈ lw_all := lw_g (lw_at lw_m14 163 rfl) rfl
theorem q3404 : (Jvm.Cond.fieldLink "ReserveLedgerModel" (37 : Nat) "ReserveLedgerModel" "tape" "[B") ∈ lw_all := lw_g (lw_at lw_m14 164 rfl) rfl
theorem q3405 : (Jvm.Cond.fieldLink "ReserveLedgerModel" (41 : Nat) "ReserveLedgerModel" "five" "[I") ∈ lw_all := lw_g (lw_at lw_m14 165 rfl) rfl
theorem q3406 : (Jvm.Cond.fieldLink "ReserveLedgerModel" (114 : Nat) "ReserveLedgerModel" "taped" "I") ∈ lw_all := lw_g (lw_at lw_m14 166 rfl) rfl
theorem q3407 : (Jvm.Cond.fieldLink "ReserveLedgerModel" (123 : Nat) "ReserveLedgerModel" "point" "I") ∈ lw_all := lw_g (lw_at lw_m14 167 rfl) rfl
theorem q3408 : (Jvm.Cond.fieldLink "ReserveLedgerModel" (137 : Nat) "ReserveLedgerModel" "begin" "I") ∈ lw_all := lw_g (lw_at lw_m14 168 rfl) rfl
theorem q3409 : (Jvm.Cond.fieldLink "ReserveLedgerModel" (126 : Nat) "ReserveLedgerModel" "size" "I") ∈ lw_all := lw_g (lw_at lw_m14 169 rfl) rfl
theorem q3410 : (Jvm.Cond.fieldLink "ReserveLedgerModel" (120 : Nat) "ReserveLedgerModel" "faultAt" "I") ∈ lw_all := lw_g (lw_at lw_m14 170 rfl) rfl
theorem q3411 : (Jvm.Cond.fieldLink "ReserveLedgerModel" (140 : Nat) "ReserveLedgerModel" "faultKind" "I") ∈ lw_all := lw_g (lw_at lw_m14 171 rfl) rfl
theorem q3412 : (Jvm.Cond.fieldLink "ReserveLedgerModel" (44 : Nat) "ReserveLedgerModel" "errorAt" "I") ∈ lw_all := lw_g (lw_at lw_m14 172 rfl) rfl
theorem q3413 : (Jvm.Cond.fieldLink "ReserveLedgerModel" (117 : Nat) "ReserveLedgerModel" "kindOfError" "I") ∈ lw_all := lw_g (lw_at lw_m14 173 rfl) rfl
theorem q3414 : (Jvm.Cond.fieldLink "ReserveLedgerModel" (182 : Nat) "ReserveLedgerModel" "formula" "I") ∈ lw_all := lw_g (lw_at lw_m14 174 rfl) rfl
theorem q3415 : (Jvm.Cond.fieldLink "ReserveLedgerModel" (195 : Nat) "ReserveLedgerModel" "nested" "I") ∈ lw_all := lw_g (lw_at lw_m14 175 rfl) rfl
theorem q3416 : (Jvm.Cond.fieldLink "ReserveLedgerModel" (47 : Nat) "ReserveLedgerModel" "made" "[I") ∈ lw_all := lw_g (lw_at lw_m14 176 rfl) rfl
theorem q3417 : (Jvm.Cond.fieldLink "ReserveLedgerModel" (50 : Nat) "ReserveLedgerModel" "text" "[B") ∈ lw_all := lw_g (lw_at lw_m14 177 rfl) rfl
theorem q3418 : (Jvm.Cond.fieldLink "ReserveLedgerModel" (401 : Nat) "ReserveLedgerModel" "written" "I") ∈ lw_all := lw_g (lw_at lw_m14 178 rfl) rfl
theorem q3470 : (Jvm.Cond.arrayClass Jvm.ClassFile.FieldType.long) ∈ lw_all := lw_g (lw_at lw_m14 230 rfl) rfl
theorem q3475 : (Jvm.Cond.methodLink "ReserveLedgerModel" (59 : Nat) ({ cls := "ReserveLedgerModel", name := "copies", desc := "([II[II)V" } : Jvm.MethodName)) ∈ lw_all := lw_g (lw_at lw_m14 235 rfl) rfl
theorem q3477 : (Jvm.Cond.instanceMethod ({ cls := "ReserveLedgerModel", name := "copies", desc := "([II[II)V" } : Jvm.MethodName)) ∈ lw_all := lw_g (lw_at lw_m14 237 rfl) rfl
theorem q3478 : (Jvm.Cond.code ({ cls := "ReserveLedgerModel", name := "copies", desc := "([II[II)V" } : Jvm.MethodName) prog_39_method_6_code (6 : Nat) (Option.none : Option Jvm.ClassFile.FieldType)) ∈ lw_all := lw_g (lw_at lw_m14 238 rfl) rfl
theorem q3503 : (Jvm.Cond.methodLink "ReserveLedgerModel" (256 : Nat) ({ cls := "ReserveLedgerModel", name := "putsAside", desc := "()V" } : Jvm.MethodName)) ∈ lw_all := lw_g (lw_at lw_m15 23 rfl) rfl
theorem q3505 : (Jvm.Cond.instanceMethod ({ cls := "ReserveLedgerModel", name := "putsAside", desc := "()V" } : Jvm.MethodName)) ∈ lw_all := lw_g (lw_at lw_m15 25 rfl) rfl
theorem q3506 : (Jvm.Cond.code ({ cls := "ReserveLedgerModel", name := "putsAside", desc := "()V" } : Jvm.MethodName) prog_39_method_10_code (1 : Nat) (Option.none : Option Jvm.ClassFile.FieldType)) ∈ lw_all := lw_g (lw_at lw_m15 26 rfl) rfl
theorem q3507 : (Jvm.Cond.methodLink "ReserveLedgerModel" (143 : Nat) ({ cls := "ReserveLedgerModel", name := "blanks", desc := "()V" } : Jvm.MethodName)) ∈ lw_all := lw_g (lw_at lw_m15 27 rfl) rfl
theorem q3509 : (Jvm.Cond.instanceMethod ({ cls := "ReserveLedgerModel", name := "blanks", desc := "()V" } : Jvm.MethodName)) ∈ lw_all := lw_g (lw_at lw_m15 29 rfl) rfl
theorem q3510 : (Jvm.Cond.code ({ cls := "ReserveLedgerModel", name := "blanks", desc := "()V" } : Jvm.MethodName) prog_39_method_29_code (1 : Nat) (Option.none : Option Jvm.ClassFile.FieldType)) ∈ lw_all := lw_g (lw_at lw_m15 30 rfl) rfl
theorem q3511 : (Jvm.Cond.methodLink "ReserveLedgerModel" (129 : Nat) ({ cls := "ReserveLedgerModel", name := "hasFailed", desc := "()Z" } : Jvm.MethodName)) ∈ lw_all := lw_g (lw_at lw_m15 31 rfl) rfl
theorem q3513 : (Jvm.Cond.instanceMethod ({ cls := "ReserveLedgerModel", name := "hasFailed", desc := "()Z" } : Jvm.MethodName)) ∈ lw_all := lw_g (lw_at lw_m15 33 rfl) rfl
theorem q3514 : (Jvm.Cond.code ({ cls := "ReserveLedgerModel", name := "hasFailed", desc := "()Z" } : Jvm.MethodName) prog_39_method_27_code (1 : Nat) (Option.some Jvm.ClassFile.FieldType.boolean)) ∈ lw_all := lw_g (lw_at lw_m15 34 rfl) rfl
theorem q3515 : (Jvm.Cond.methodLink "ReserveLedgerModel" (133 : Nat) ({ cls := "ReserveLedgerModel", name := "isAt", desc := "(II)Z" } : Jvm.MethodName)) ∈ lw_all := lw_g (lw_at lw_m15 35 rfl) rfl
theorem q3517 : (Jvm.Cond.instanceMethod ({ cls := "ReserveLedgerModel", name := "isAt", desc := "(II)Z" } : Jvm.MethodName)) ∈ lw_all := lw_g (lw_at lw_m15 37 rfl) rfl
theorem q3518 : (Jvm.Cond.code ({ cls := "ReserveLedgerModel", name := "isAt", desc := "(II)Z" } : Jvm.MethodName) prog_39_method_28_code (3 : Nat) (Option.some Jvm.ClassFile.FieldType.boolean)) ∈ lw_all := lw_g (lw_at lw_m15 38 rfl) rfl
theorem q3519 : (Jvm.Cond.methodLink "ReserveLedgerModel" (259 : Nat) ({ cls := "ReserveLedgerModel", name := "readLine", desc := "()V" } : Jvm.MethodName)) ∈ lw_all := lw_g (lw_at lw_m15 39 rfl) rfl
theorem q3521 : (Jvm.Cond.instanceMethod ({ cls := "ReserveLedgerModel", name := "readLine", desc := "()V" } : Jvm.MethodName)) ∈ lw_all := lw_g (lw_at lw_m15 41 rfl) rfl
theorem q3522 : (Jvm.Cond.code ({ cls := "ReserveLedgerModel", name := "readLine", desc := "()V" } : Jvm.MethodName) prog_39_method_49_code (2 : Nat) (Option.none : Option Jvm.ClassFile.FieldType)) ∈ lw_all := lw_g (lw_at lw_m15 42 rfl) rfl
theorem q3524 : (Jvm.Cond.methodLink "ReserveLedgerModel" (212 : Nat) ({ cls := "ReserveLedgerModel", name := "takes", desc := "(Ljava/lang/String;)Z" } : Jvm.MethodName)) ∈ lw_all := lw_g (lw_at lw_m15 44 rfl) rfl
theorem q3526 : (Jvm.Cond.instanceMethod ({ cls := "ReserveLedgerModel", name := "takes", desc := "(Ljava/lang/String;)Z" } : Jvm.MethodName)) ∈ lw_all := lw_g (lw_at lw_m15 46 rfl) rfl
theorem q3527 : (Jvm.Cond.code ({ cls := "ReserveLedgerModel", name := "takes", desc := "(Ljava/lang/String;)Z" } : Jvm.MethodName) prog_39_method_32_code (4 : Nat) (Option.some Jvm.ClassFile.FieldType.boolean)) ∈ lw_all := lw_g (lw_at lw_m15 47 rfl) rfl
theorem q3528 : (Jvm.Cond.methodLink "ReserveLedgerModel" (146 : Nat) ({ cls := "ReserveLedgerModel", name := "wordHere", desc := "()I" } : Jvm.MethodName)) ∈ lw_all := lw_g (lw_at lw_m15 48 rfl) rfl
theorem q3530 : (Jvm.Cond.instanceMethod ({ cls := "ReserveLedgerModel", name := "wordHere", desc := "()I" } : Jvm.MethodName)) ∈ lw_all := lw_g (lw_at lw_m15 50 rfl) rfl
theorem q3531 : (Jvm.Cond.code ({ cls := "ReserveLedgerModel", name := "wordHere", desc := "()I" } : Jvm.MethodName) prog_39_method_31_code (2 : Nat) (Option.some Jvm.ClassFile.FieldType.int)) ∈ lw_all := lw_g (lw_at lw_m15 51 rfl) rfl
theorem q3532 : (Jvm.Cond.methodLink "ReserveLedgerModel" (150 : Nat) ({ cls := "java/lang/String", name := "length", desc := "()I" } : Jvm.MethodName)) ∈ lw_all := lw_g (lw_at lw_m15 52 rfl) rfl
theorem q3533 : (Jvm.Cond.methodLink "ReserveLedgerModel" (155 : Nat) ({ cls := "java/lang/String", name := "charAt", desc := "(I)C" } : Jvm.MethodName)) ∈ lw_all := lw_g (lw_at lw_m15 53 rfl) rfl
theorem q3534 : (Jvm.Cond.methodLink "ReserveLedgerModel" (179 : Nat) ({ cls := "ReserveLedgerModel", name := "number", desc := "(II)I" } : Jvm.MethodName)) ∈ lw_all := lw_g (lw_at lw_m15 54 rfl) rfl
theorem q3536 : (Jvm.Cond.instanceMethod ({ cls := "ReserveLedgerModel", name := "number", desc := "(II)I" } : Jvm.MethodName)) ∈ lw_all := lw_g (lw_at lw_m15 56 rfl) rfl
theorem q3537 : (Jvm.Cond.code ({ cls := "ReserveLedgerModel", name := "number", desc := "(II)I" } : Jvm.MethodName) prog_39_method_35_code (4 : Nat) (Option.some Jvm.ClassFile.FieldType.int)) ∈ lw_all := lw_g (lw_at lw_m15 57 rfl) rfl
theorem q3538 : (Jvm.Cond.methodLink "ReserveLedgerModel" (163 : Nat) ({ cls := "ReserveLedgerModel", name := "must", desc := "(ZI)V" } : Jvm.MethodName)) ∈ lw_all := lw_g (lw_at lw_m15 58 rfl) rfl
theorem q3540 : (Jvm.Cond.instanceMethod ({ cls := "ReserveLedgerModel", name := "must", desc := "(ZI)V" } : Jvm.MethodName)) ∈ lw_all := lw_g (lw_at lw_m15 60 rfl) rfl
theorem q3541 : (Jvm.Cond.code ({ cls := "ReserveLedgerModel", name := "must", desc := "(ZI)V" } : Jvm.MethodName) prog_39_method_30_code (3 : Nat) (Option.none : Option Jvm.ClassFile.FieldType)) ∈ lw_all := lw_g (lw_at lw_m15 61 rfl) rfl
theorem q3542 : (Jvm.Cond.methodLink "ReserveLedgerModel" (167 : Nat) ({ cls := "ReserveLedgerModel", name := "in", desc := "(JJJ)Z" } : Jvm.MethodName)) ∈ lw_all := lw_g (lw_at lw_m15 62 rfl) rfl
theorem q3543 : (Jvm.Cond.static ({ cls := "ReserveLedgerModel", name := "in", desc := "(JJJ)Z" } : Jvm.MethodName)) ∈ lw_all := lw_g (lw_at lw_m15 63 rfl) rfl
theorem q3544 : (Jvm.Cond.code ({ cls := "ReserveLedgerModel", name := "in", desc := "(JJJ)Z" } : Jvm.MethodName) prog_39_method_3_code (6 : Nat) (Option.some Jvm.ClassFile.FieldType.boolean)) ∈ lw_all := lw_g (lw_at lw_m15 64 rfl) rfl
theorem q3546 : (Jvm.Cond.methodLink "ReserveLedgerModel" (250 : Nat) ({ cls := "ReserveLedgerModel", name := "readSpecies", desc := "(I)V" } : Jvm.MethodName)) ∈ lw_all := lw_g (lw_at lw_m15 66 rfl) rfl
theorem q3548 : (Jvm.Cond.instanceMethod ({ cls := "ReserveLedgerModel", name := "readSpecies", desc := "(I)V" } : Jvm.MethodName)) ∈ lw_all := lw_g (lw_at lw_m15 68 rfl) rfl
theorem q3549 : (Jvm.Cond.code ({ cls := "ReserveLedgerModel", name := "readSpecies", desc := "(I)V" } : Jvm.MethodName) prog_39_method_38_code (6 : Nat) (Option.none : Option Jvm.ClassFile.FieldType)) ∈ lw_all := lw_g (lw_at lw_m15 69 rfl) rfl
theorem q3550 : (Jvm.Cond.methodLink "ReserveLedgerModel" (173 : Nat) ({ cls := "ReserveLedgerModel", name := "nameHere", desc := "()I" } : Jvm.MethodName)) ∈ lw_all := lw_g (lw_at lw_m15 70 rfl) rfl
theorem q3552 : (Jvm.Cond.instanceMethod ({ cls := "ReserveLedgerModel", name := "nameHere", desc := "()I" } : Jvm.MethodName)) ∈ lw_all := lw_g (lw_at lw_m15 72 rfl) rfl
theorem q3553 : (Jvm.Cond.code ({ cls := "ReserveLedgerModel", name := "nameHere", desc := "()I" } : Jvm.MethodName) prog_39_method_36_code (4 : Nat) (Option.some Jvm.ClassFile.FieldType.int)) ∈ lw_all := lw_g (lw_at lw_m15 73 rfl) rfl
theorem q3554 : (Jvm.Cond.constantLong "ReserveLedgerModel" (171 : Nat) (6 : Int64)) ∈ lw_all := lw_g (lw_at lw_m15 74 rfl) rfl
theorem q3555 : (Jvm.Cond.methodLink "ReserveLedgerModel" (176 : Nat) ({ cls := "ReserveLedgerModel", name := "named", desc := "(I)I" } : Jvm.MethodName)) ∈ lw_all := lw_g (lw_at lw_m15 75 rfl) rfl
theorem q3557 : (Jvm.Cond.instanceMethod ({ cls := "ReserveLedgerModel", name := "named", desc := "(I)I" } : Jvm.MethodName)) ∈ lw_all := lw_g (lw_at lw_m15 77 rfl) rfl
theorem q3558 : (Jvm.Cond.code ({ cls := "ReserveLedgerModel", name := "named", desc := "(I)I" } : Jvm.MethodName) prog_39_method_37_code (3 : Nat) (Option.some Jvm.ClassFile.FieldType.int)) ∈ lw_all := lw_g (lw_at lw_m15 78 rfl) rfl
theorem q3559 : (Jvm.Cond.methodLink "ReserveLedgerModel" (67 : Nat) ({ cls := "ReserveLedgerModel", name := "of", desc := "(II)I" } : Jvm.MethodName)) ∈ lw_all := lw_g (lw_at lw_m15 79 rfl) rfl
theorem q3561 : (Jvm.Cond.instanceMethod ({ cls := "ReserveLedgerModel", name := "of", desc := "(II)I" } : Jvm.MethodName)) ∈ lw_all := lw_g (lw_at lw_m15 81 rfl) rfl
theorem q3562 : (Jvm.Cond.code ({ cls := "ReserveLedgerModel", name := "of", desc := "(II)I" } : Jvm.MethodName) prog_39_method_13_code (3 : Nat) (Option.some Jvm.ClassFile.FieldType.int)) ∈ lw_all := lw_g (lw_at lw_m15 82 rfl) rfl
theorem q3563 : (Jvm.Cond.methodLink "ReserveLedgerModel" (63 : Nat) ({ cls := "ReserveLedgerModel", name := "at", desc := "(II)I" } : Jvm.MethodName)) ∈ lw_all := lw_g (lw_at lw_m15 83 rfl) rfl
theorem q3564 : (Jvm.Cond.static ({ cls := "ReserveLedgerModel", name := "at", desc := "(II)I" } : Jvm.MethodName)) ∈ lw_all := lw_g (lw_at lw_m15 84 rfl) rfl
theorem q3565 : (Jvm.Cond.code ({ cls := "ReserveLedgerModel", name := "at", desc := "(II)I" } : Jvm.MethodName) prog_39_method_12_code (2 : Nat) (Option.some Jvm.ClassFile.FieldType.int)) ∈ lw_all := lw_g (lw_at lw_m15 85 rfl) rfl
theorem q3566 : (Jvm.Cond.methodLink "ReserveLedgerModel" (253 : Nat) ({ cls := "ReserveLedgerModel", name := "readOf", desc := "(I)V" } : Jvm.MethodName)) ∈ lw_all := lw_g (lw_at lw_m15 86 rfl) rfl
theorem q3568 : (Jvm.Cond.instanceMethod ({ cls := "ReserveLedgerModel", name := "readOf", desc := "(I)V" } : Jvm.MethodName)) ∈ lw_all := lw_g (lw_at lw_m15 88 rfl) rfl
theorem q3569 : (Jvm.Cond.code ({ cls := "ReserveLedgerModel", name := "readOf", desc := "(I)V" } : Jvm.MethodName) prog_39_method_48_code (9 : Nat) (Option.none : Option Jvm.ClassFile.FieldType)) ∈ lw_all := lw_g (lw_at lw_m15 89 rfl) rfl
theorem q3576 : (Jvm.Cond.methodLink "ReserveLedgerModel" (240 : Nat) ({ cls := "ReserveLedgerModel", name := "readRow", desc := "(III)V" } : Jvm.MethodName)) ∈ lw_all := lw_g (lw_at lw_m15 96 rfl) rfl
theorem q3578 : (Jvm.Cond.instanceMethod ({ cls := "ReserveLedgerModel", name := "readRow", desc := "(III)V" } : Jvm.MethodName)) ∈ lw_all := lw_g (lw_at lw_m15 98 rfl) rfl
theorem q3579 : (Jvm.Cond.code ({ cls := "ReserveLedgerModel", name := "readRow", desc := "(III)V" } : Jvm.MethodName) prog_39_method_39_code (6 : Nat) (Option.none : Option Jvm.ClassFile.FieldType)) ∈ lw_all := lw_g (lw_at lw_m15 99 rfl) rfl
theorem q3580 : (Jvm.Cond.methodLink "ReserveLedgerModel" (70 : Nat) ({ cls := "ReserveLedgerModel", name := "oldest", desc := "(I)I" } : Jvm.MethodName)) ∈ lw_all := lw_g (lw_at lw_m15 100 rfl) rfl
theorem q3582 : (Jvm.Cond.instanceMethod ({ cls := "ReserveLedgerModel", name := "oldest", desc := "(I)I" } : Jvm.MethodName)) ∈ lw_all := lw_g (lw_at lw_m15 102 rfl) rfl
theorem q3583 : (Jvm.Cond.code ({ cls := "ReserveLedgerModel", name := "oldest", desc := "(I)I" } : Jvm.MethodName) prog_39_method_14_code (2 : Nat) (Option.some Jvm.ClassFile.FieldType.int)) ∈ lw_all := lw_g (lw_at lw_m15 103 rfl) rfl
theorem q3584 : (Jvm.Cond.constant "ReserveLedgerModel" (244 : Nat) (99999 : Int32)) ∈ lw_all := lw_g (lw_at lw_m15 104 rfl) rfl
theorem q3585 : (Jvm.Cond.methodLink "ReserveLedgerModel" (245 : Nat) ({ cls := "ReserveLedgerModel", name := "readAllow", desc := "(I)V" } : Jvm.MethodName)) ∈ lw_all := lw_g (lw_at lw_m15 105 rfl) rfl
theorem q3587 : (Jvm.Cond.instanceMethod ({ cls := "ReserveLedgerModel", name := "readAllow", desc := "(I)V" } : Jvm.MethodName)) ∈ lw_all := lw_g (lw_at lw_m15 107 rfl) rfl
theorem q3588 : (Jvm.Cond.code ({ cls := "ReserveLedgerModel", name := "readAllow", desc := "(I)V" } : Jvm.MethodName) prog_39_method_47_code (2 : Nat) (Option.none : Option Jvm.ClassFile.FieldType)) ∈ lw_all := lw_g (lw_at lw_m15 108 rfl) rfl
theorem q3589 : (Jvm.Cond.methodLink "ReserveLedgerModel" (204 : Nat) ({ cls := "ReserveLedgerModel", name := "readSum", desc := "()V" } : Jvm.MethodName)) ∈ lw_all := lw_g (lw_at lw_m15 109 rfl) rfl
theorem q3591 : (Jvm.Cond.instanceMethod ({ cls := "ReserveLedgerModel", name := "readSum", desc := "()V" } : Jvm.MethodName)) ∈ lw_all := lw_g (lw_at lw_m15 111 rfl) rfl
theorem q3592 : (Jvm.Cond.code ({ cls := "ReserveLedgerModel", name := "readSum", desc := "()V" } : Jvm.MethodName) prog_39_method_41_code (3 : Nat) (Option.none : Option Jvm.ClassFile.FieldType)) ∈ lw_all := lw_g (lw_at lw_m15 112 rfl) rfl
theorem q3593 : (Jvm.Cond.methodLink "ReserveLedgerModel" (185 : Nat) ({ cls := "ReserveLedgerModel", name := "readTerm", desc := "()V" } : Jvm.MethodName)) ∈ lw_all := lw_g (lw_at lw_m15 113 rfl) rfl
theorem q3595 : (Jvm.Cond.instanceMethod ({ cls := "ReserveLedgerModel", name := "readTerm", desc := "()V" } : Jvm.MethodName)) ∈ lw_all := lw_g (lw_at lw_m15 115 rfl) rfl
theorem q3596 : (Jvm.Cond.code ({ cls := "ReserveLedgerModel", name := "readTerm", desc := "()V" } : Jvm.MethodName) prog_39_method_42_code (3 : Nat) (Option.none : Option Jvm.ClassFile.FieldType)) ∈ lw_all := lw_g (lw_at lw_m15 116 rfl) rfl
theorem q3597 : (Jvm.Cond.methodLink "ReserveLedgerModel" (192 : Nat) ({ cls := "ReserveLedgerModel", name := "readFactor", desc := "()V" } : Jvm.MethodName)) ∈ lw_all := lw_g (lw_at lw_m15 117 rfl) rfl
theorem q3599 : (Jvm.Cond.instanceMethod ({ cls := "ReserveLedgerModel", name := "readFactor", desc := "()V" } : Jvm.MethodName)) ∈ lw_all := lw_g (lw_at lw_m15 119 rfl) rfl
theorem q3600 : (Jvm.Cond.code ({ cls := "ReserveLedgerModel", name := "readFactor", desc := "()V" } : Jvm.MethodName) prog_39_method_46_code (2 : Nat) (Option.none : Option Jvm.ClassFile.FieldType)) ∈ lw_all := lw_g (lw_at lw_m15 120 rfl) rfl
theorem q3601 : (Jvm.Cond.constant "ReserveLedgerModel" (210 : Nat) (999999 : Int32)) ∈ lw_all := lw_g (lw_at lw_m15 121 rfl) rfl
theorem q3602 : (Jvm.Cond.methodLink "ReserveLedgerModel" (188 : Nat) ({ cls := "ReserveLedgerModel", name := "puts", desc := "(I)V" } : Jvm.MethodName)) ∈ lw_all := lw_g (lw_at lw_m15 122 rfl) rfl
theorem q3604 : (Jvm.Cond.instanceMethod ({ cls := "ReserveLedgerModel", name := "puts", desc := "(I)V" } : Jvm.MethodName)) ∈ lw_all := lw_g (lw_at lw_m15 124 rfl) rfl
theorem q3605 : (Jvm.Cond.code ({ cls := "ReserveLedgerModel", name := "puts", desc := "(I)V" } : Jvm.MethodName) prog_39_method_40_code (2 : Nat) (Option.none : Option Jvm.ClassFile.FieldType)) ∈ lw_all := lw_g (lw_at lw_m15 125 rfl) rfl
theorem q3606 : (Jvm.Cond.methodLink "ReserveLedgerModel" (201 : Nat) ({ cls := "ReserveLedgerModel", name := "opensBracket", desc := "()V" } : Jvm.MethodName)) ∈ lw_all := lw_g (lw_at lw_m15 126 rfl) rfl
theorem q3608 : (Jvm.Cond.instanceMethod ({ cls := "ReserveLedgerModel", name := "opensBracket", desc := "()V" } : Jvm.MethodName)) ∈ lw_all := lw_g (lw_at lw_m15 128 rfl) rfl
theorem q3609 : (Jvm.Cond.code ({ cls := "ReserveLedgerModel", name := "opensBracket", desc := "()V" } : Jvm.MethodName) prog_39_method_43_code (1 : Nat) (Option.none : Option Jvm.ClassFile.FieldType)) ∈ lw_all := lw_g (lw_at lw_m15 129 rfl) rfl
theorem q3610 : (Jvm.Cond.methodLink "ReserveLedgerModel" (207 : Nat) ({ cls := "ReserveLedgerModel", name := "closesBracket", desc := "()V" } : Jvm.MethodName)) ∈ lw_all := lw_g (lw_at lw_m15 130 rfl) rfl
theorem q3612 : (Jvm.Cond.instanceMethod ({ cls := "ReserveLedgerModel", name := "closesBracket", desc := "()V" } : Jvm.MethodName)) ∈ lw_all := lw_g (lw_at lw_m15 132 rfl) rfl
theorem q3613 : (Jvm.Cond.code ({ cls := "ReserveLedgerModel", name := "closesBracket", desc := "()V" } : Jvm.MethodName) prog_39_method_44_code (1 : Nat) (Option.none : Option Jvm.ClassFile.FieldType)) ∈ lw_all := lw_g (lw_at lw_m15 133 rfl) rfl
theorem q3614 : (Jvm.Cond.methodLink "ReserveLedgerModel" (198 : Nat) ({ cls := "ReserveLedgerModel", name := "needs", desc := "(I)V" } : Jvm.MethodName)) ∈ lw_all := lw_g (lw_at lw_m15 134 rfl) rfl
theorem q3616 : (Jvm.Cond.instanceMethod ({ cls := "ReserveLedgerModel", name := "needs", desc := "(I)V" } : Jvm.MethodName)) ∈ lw_all := lw_g (lw_at lw_m15 136 rfl) rfl
theorem q3617 : (Jvm.Cond.code ({ cls := "ReserveLedgerModel", name := "needs", desc := "(I)V" } : Jvm.MethodName) prog_39_method_34_code (3 : Nat) (Option.none : Option Jvm.ClassFile.FieldType)) ∈ lw_all := lw_g (lw_at lw_m15 137 rfl) rfl
theorem q3618 : (Jvm.Cond.methodLink "ReserveLedgerModel" (159 : Nat) ({ cls := "ReserveLedgerModel", name := "takesSign", desc := "(I)Z" } : Jvm.MethodName)) ∈ lw_all := lw_g (lw_at lw_m15 138 rfl) rfl
theorem q3620 : (Jvm.Cond.instanceMethod ({ cls := "ReserveLedgerModel", name := "takesSign", desc := "(I)Z" } : Jvm.MethodName)) ∈ lw_all := lw_g (lw_at lw_m15 140 rfl) rfl
theorem q3621 : (Jvm.Cond.code ({ cls := "ReserveLedgerModel", name := "takesSign", desc := "(I)Z" } : Jvm.MethodName) prog_39_method_33_code (3 : Nat) (Option.some Jvm.ClassFile.FieldType.boolean)) ∈ lw_all := lw_g (lw_at lw_m15 141 rfl) rfl
theorem q3623 : (Jvm.Cond.methodLink "ReserveLedgerModel" (216 : Nat) ({ cls := "ReserveLedgerModel", name := "readPair", desc := "(I)V" } : Jvm.MethodName)) ∈ lw_all := lw_g (lw_at lw_m15 143 rfl) rfl
theorem q3625 : (Jvm.Cond.instanceMethod ({ cls := "ReserveLedgerModel", name := "readPair", desc := "(I)V" } : Jvm.MethodName)) ∈ lw_all := lw_g (lw_at lw_m15 145 rfl) rfl
theorem q3626 : (Jvm.Cond.code ({ cls := "ReserveLedgerModel", name := "readPair", desc := "(I)V" } : Jvm.MethodName) prog_39_method_45_code (2 : Nat) (Option.none : Option Jvm.ClassFile.FieldType)) ∈ lw_all := lw_g (lw_at lw_m15 146 rfl) rfl
theorem q3631 : (Jvm.Cond.methodLink "ReserveLedgerModel" (262 : Nat) ({ cls := "ReserveLedgerModel", name := "throwsIf", desc := "(ZI)Z" } : Jvm.MethodName)) ∈ lw_all := lw_g (lw_at lw_m15 151 rfl) rfl
theorem q3633 : (Jvm.Cond.instanceMethod ({ cls := "ReserveLedgerModel", name := "throwsIf", desc := "(ZI)Z" } : Jvm.MethodName)) ∈ lw_all := lw_g (lw_at lw_m15 153 rfl) rfl
theorem q3634 : (Jvm.Cond.code ({ cls := "ReserveLedgerModel", name := "throwsIf", desc := "(ZI)Z" } : Jvm.MethodName) prog_39_method_2_code (3 : Nat) (Option.some Jvm.ClassFile.FieldType.boolean)) ∈ lw_all := lw_g (lw_at lw_m15 154 rfl) rfl
theorem q3635 : (Jvm.Cond.methodLink "ReserveLedgerModel" (266 : Nat) ({ cls := "ReserveLedgerModel", name := "takesBack", desc := "()V" } : Jvm.MethodName)) ∈ lw_all := lw_g (lw_at lw_m15 155 rfl) rfl
theorem q3637 : (Jvm.Cond.instanceMethod ({ cls := "ReserveLedgerModel", name := "takesBack", desc := "()V" } : Jvm.MethodName)) ∈ lw_all := lw_g (lw_at lw_m15 157 rfl) rfl
theorem q3638 : (Jvm.Cond.code ({ cls := "ReserveLedgerModel", name := "takesBack", desc := "()V" } : Jvm.MethodName) prog_39_method_11_code (1 : Nat) (Option.none : Option Jvm.ClassFile.FieldType)) ∈ lw_all := lw_g (lw_at lw_m15 158 rfl) rfl
theorem q3639 : (Jvm.Cond.methodLink "ReserveLedgerModel" (269 : Nat) ({ cls := "ReserveLedgerModel", name := "opens", desc := "(I)V" } : Jvm.MethodName)) ∈ lw_all := lw_g (lw_at lw_m15 159 rfl) rfl
theorem q3641 : (Jvm.Cond.instanceMethod ({ cls := "ReserveLedgerModel", name := "opens", desc := "(I)V" } : Jvm.MethodName)) ∈ lw_all := lw_g (lw_at lw_m15 161 rfl) rfl
theorem q3642 : (Jvm.Cond.code ({ cls := "ReserveLedgerModel", name := "opens", desc := "(I)V" } : Jvm.MethodName) prog_39_method_22_code (5 : Nat) (Option.none : Option Jvm.ClassFile.FieldType)) ∈ lw_all := lw_g (lw_at lw_m15 162 rfl) rfl
theorem q3643 : (Jvm.Cond.methodLink "ReserveLedgerModel" (104 : Nat) ({ cls := "ReserveLedgerModel", name := "totalOf", desc := "(I)I" } : Jvm.MethodName)) ∈ lw_all := lw_g (lw_at lw_m15 163 rfl) rfl
theorem q3645 : (Jvm.Cond.instanceMethod ({ cls := "ReserveLedgerModel", name := "totalOf", desc := "(I)I" } : Jvm.MethodName)) ∈ lw_all := lw_g (lw_at lw_m15 165 rfl) rfl
theorem q3646 : (Jvm.Cond.code ({ cls := "ReserveLedgerModel", name := "totalOf", desc := "(I)I" } : Jvm.MethodName) prog_39_method_16_code (4 : Nat) (Option.some Jvm.ClassFile.FieldType.int)) ∈ lw_all := lw_g (lw_at lw_m15 166 rfl) rfl
theorem q3647 : (Jvm.Cond.methodLink "ReserveLedgerModel" (74 : Nat) ({ cls := "ReserveLedgerModel", name := "cohortOf", desc := "(II)I" } : Jvm.MethodName)) ∈ lw_all := lw_g (lw_at lw_m15 167 rfl) rfl
theorem q3649 : (Jvm.Cond.instanceMethod ({ cls := "ReserveLedgerModel", name := "cohortOf", desc := "(II)I" } : Jvm.MethodName)) ∈ lw_all := lw_g (lw_at lw_m15 169 rfl) rfl
theorem q3650 : (Jvm.Cond.code ({ cls := "ReserveLedgerModel", name := "cohortOf", desc := "(II)I" } : Jvm.MethodName) prog_39_method_15_code (3 : Nat) (Option.some Jvm.ClassFile.FieldType.int)) ∈ lw_all := lw_g (lw_at lw_m15 170 rfl) rfl
theorem q3651 : (Jvm.Cond.methodLink "ReserveLedgerModel" (110 : Nat) ({ cls := "ReserveLedgerModel", name := "valueOf", desc := "(I)J" } : Jvm.MethodName)) ∈ lw_all := lw_g (lw_at lw_m15 171 rfl) rfl
theorem q3653 : (Jvm.Cond.instanceMethod ({ cls := "ReserveLedgerModel", name := "valueOf", desc := "(I)J" } : Jvm.MethodName)) ∈ lw_all := lw_g (lw_at lw_m15 173 rfl) rfl
theorem q3654 : (Jvm.Cond.code ({ cls := "ReserveLedgerModel", name := "valueOf", desc := "(I)J" } : Jvm.MethodName) prog_39_method_21_code (6 : Nat) (Option.some Jvm.ClassFile.FieldType.long)) ∈ lw_all := lw_g (lw_at lw_m15 174 rfl) rfl
theorem q3655 : (Jvm.Cond.methodLink "ReserveLedgerModel" (100 : Nat) ({ cls := "ReserveLedgerModel", name := "worked", desc := "(IJJ)J" } : Jvm.MethodName)) ∈ lw_all := lw_g (lw_at lw_m15 175 rfl) rfl
theorem q3657 : (Jvm.Cond.instanceMethod ({ cls := "ReserveLedgerModel", name := "worked", desc := "(IJJ)J" } : Jvm.MethodName)) ∈ lw_all := lw_g (lw_at lw_m15 177 rfl) rfl
theorem q3658 : (Jvm.Cond.code ({ cls := "ReserveLedgerModel", name := "worked", desc := "(IJJ)J" } : Jvm.MethodName) prog_39_method_20_code (6 : Nat) (Option.some Jvm.ClassFile.FieldType.long)) ∈ lw_all := lw_g (lw_at lw_m15 178 rfl) rfl
theorem q3659 : (Jvm.Cond.methodLink "ReserveLedgerModel" (92 : Nat) ({ cls := "ReserveLedgerModel", name := "limited", desc := "(J)J" } : Jvm.MethodName)) ∈ lw_all := lw_g (lw_at lw_m15 179 rfl) rfl
theorem q3660 : (Jvm.Cond.static ({ cls := "ReserveLedgerModel", name := "limited", desc := "(J)J" } : Jvm.MethodName)) ∈ lw_all := lw_g (lw_at lw_m15 180 rfl) rfl
theorem q3661 : (Jvm.Cond.code ({ cls := "ReserveLedgerModel", name := "limited", desc := "(J)J" } : Jvm.MethodName) prog_39_method_19_code (2 : Nat) (Option.some Jvm.ClassFile.FieldType.long)) ∈ lw_all := lw_g (lw_at lw_m15 181 rfl) rfl
theorem q3662 : (Jvm.Cond.constantLong "ReserveLedgerModel" (82 : Nat) (-1000000000 : Int64)) ∈ lw_all := lw_g (lw_at lw_m15 182 rfl) rfl
theorem q3663 : (Jvm.Cond.constantLong "ReserveLedgerModel" (84 : Nat) (1000000000 : Int64)) ∈ lw_all := lw_g (lw_at lw_m15 183 rfl) rfl
theorem q3664 : (Jvm.Cond.methodLink "ReserveLedgerModel" (86 : Nat) ({ cls := "java/lang/Math", name := "min", desc := "(JJ)J" } : Jvm.MethodName)) ∈ lw_all := lw_g (lw_at lw_m15 184 rfl) rfl
theorem q3665 : (Jvm.Cond.methodLink "ReserveLedgerModel" (90 : Nat) ({ cls := "java/lang/Math", name := "max", desc := "(JJ)J" } : Jvm.MethodName)) ∈ lw_all := lw_g (lw_at lw_m15 185 rfl) rfl
theorem q3666 : (Jvm.Cond.methodLink "ReserveLedgerModel" (107 : Nat) ({ cls := "ReserveLedgerModel", name := "adultsOf", desc := "(I)I" } : Jvm.MethodName)) ∈ lw_all := lw_g (lw_at lw_m15 186 rfl) rfl
theorem q3668 : (Jvm.Cond.instanceMethod ({ cls := "ReserveLedgerModel", name := "adultsOf", desc := "(I)I" } : Jvm.MethodName)) ∈ lw_all := lw_g (lw_at lw_m15 188 rfl) rfl
theorem q3669 : (Jvm.Cond.code ({ cls := "ReserveLedgerModel", name := "adultsOf", desc := "(I)I" } : Jvm.MethodName) prog_39_method_17_code (4 : Nat) (Option.some Jvm.ClassFile.FieldType.int)) ∈ lw_all := lw_g (lw_at lw_m15 189 rfl) rfl
theorem q3674 : (Jvm.Cond.constantLong "ReserveLedgerModel" (314 : Nat) (3 : Int64)) ∈ lw_all := lw_g (lw_at lw_m15 194 rfl) rfl
theorem q3679 : (Jvm.Cond.constantLong "ReserveLedgerModel" (316 : Nat) (97 : Int64)) ∈ lw_all := lw_g (lw_at lw_m15 199 rfl) rfl
theorem q3680 : (Jvm.Cond.constantLong "ReserveLedgerModel" (318 : Nat) (122 : Int64)) ∈ lw_all := lw_g (lw_at lw_m15 200 rfl) rfl
theorem q3685 : (Jvm.Cond.methodLink "ReserveLedgerModel" (311 : Nat) ({ cls := "ReserveLedgerModel", name := "noSpecies", desc := "(I)Z" } : Jvm.MethodName)) ∈ lw_all := lw_g (lw_at lw_m15 205 rfl) rfl
theorem q3687 : (Jvm.Cond.instanceMethod ({ cls := "ReserveLedgerModel", name := "noSpecies", desc := "(I)Z" } : Jvm.MethodName)) ∈ lw_all := lw_g (lw_at lw_m15 207 rfl) rfl
theorem q3688 : (Jvm.Cond.code ({ cls := "ReserveLedgerModel", name := "noSpecies", desc := "(I)Z" } : Jvm.MethodName) prog_39_method_61_code (2 : Nat) (Option.some Jvm.ClassFile.FieldType.boolean)) ∈ lw_all := lw_g (lw_at lw_m15 208 rfl) rfl
theorem q3689 : (Jvm.Cond.constantLong "ReserveLedgerModel" (320 : Nat) (9 : Int64)) ∈ lw_all := lw_g (lw_at lw_m15 209 rfl) rfl
theorem q3690 : (Jvm.Cond.methodLink "ReserveLedgerModel" (284 : Nat) ({ cls := "ReserveLedgerModel", name := "leftOf", desc := "(I)I" } : Jvm.MethodName)) ∈ lw_all := lw_g (lw_at lw_m15 210 rfl) rfl
theorem q3692 : (Jvm.Cond.instanceMethod ({ cls := "ReserveLedgerModel", name := "leftOf", desc := "(I)I" } : Jvm.MethodName)) ∈ lw_all := lw_g (lw_at lw_m15 212 rfl) rfl
theorem q3693 : (Jvm.Cond.code ({ cls := "ReserveLedgerModel", name := "leftOf", desc := "(I)I" } : Jvm.MethodName) prog_39_method_18_code (2 : Nat) (Option.some Jvm.ClassFile.FieldType.int)) ∈ lw_all := lw_g (lw_at lw_m15 213 rfl) rfl
theorem q3694 : (Jvm.Cond.methodLink "ReserveLedgerModel" (77 : Nat) ({ cls := "java/lang/Math", name := "max", desc := "(II)I" } : Jvm.MethodName)) ∈ lw_all := lw_g (lw_at lw_m15 214 rfl) rfl
theorem q3699 : (Jvm.Cond.methodLink "ReserveLedgerModel" (322 : Nat) ({ cls := "ReserveLedgerModel", name := "noAge", desc := "(II)Z" } : Jvm.MethodName)) ∈ lw_all := lw_g (lw_at lw_m15 219 rfl) rfl
theorem q3701 : (Jvm.Cond.instanceMethod ({ cls := "ReserveLedgerModel", name := "noAge", desc := "(II)Z" } : Jvm.MethodName)) ∈ lw_all := lw_g (lw_at lw_m15 221 rfl) rfl
theorem q3702 : (Jvm.Cond.code ({ cls := "ReserveLedgerModel", name := "noAge", desc := "(II)Z" } : Jvm.MethodName) prog_39_method_62_code (3 : Nat) (Option.some Jvm.ClassFile.FieldType.boolean)) ∈ lw_all := lw_g (lw_at lw_m15 222 rfl) rfl
theorem q3715 : (Jvm.Cond.methodLink "ReserveLedgerModel" (326 : Nat) ({ cls := "ReserveLedgerModel", name := "aliveOf", desc := "(II)I" } : Jvm.MethodName)) ∈ lw_all := lw_g (lw_at lw_m15 235 rfl) rfl
theorem q3717 : (Jvm.Cond.instanceMethod ({ cls := "ReserveLedgerModel", name := "aliveOf", desc := "(II)I" } : Jvm.MethodName)) ∈ lw_all := lw_g (lw_at lw_m15 237 rfl) rfl
theorem q3718 : (Jvm.Cond.code ({ cls := "ReserveLedgerModel", name := "aliveOf", desc := "(II)I" } : Jvm.MethodName) prog_39_method_69_code (5 : Nat) (Option.some Jvm.ClassFile.FieldType.int)) ∈ lw_all := lw_g (lw_at lw_m15 238 rfl) rfl
theorem q3719 : (Jvm.Cond.constant "ReserveLedgerModel" (325 : Nat) (100000 : Int32)) ∈ lw_all := lw_g (lw_at lw_m15 239 rfl) rfl
theorem q3720 : (Jvm.Cond.constantLong "ReserveLedgerModel" (276 : Nat) (1000 : Int64)) ∈ lw_all := lw_g (lw_at lw_m16 0 rfl) rfl
theorem q3729 : (Jvm.Cond.constantDouble "ReserveLedgerModel" (329 : Nat) (4602678819172646912 : UInt64)) ∈ lw_all := lw_g (lw_at lw_m16 9 rfl) rfl
theorem q3734 : (Jvm.Cond.methodLink "ReserveLedgerModel" (331 : Nat) ({ cls := "ReserveLedgerModel", name := "bornOf", desc := "(II)J" } : Jvm.MethodName)) ∈ lw_all := lw_g (lw_at lw_m16 14 rfl) rfl
theorem q3736 : (Jvm.Cond.instanceMethod ({ cls := "ReserveLedgerModel", name := "bornOf", desc := "(II)J" } : Jvm.MethodName)) ∈ lw_all := lw_g (lw_at lw_m16 16 rfl) rfl
theorem q3737 : (Jvm.Cond.code ({ cls := "ReserveLedgerModel", name := "bornOf", desc := "(II)J" } : Jvm.MethodName) prog_39_method_73_code (3 : Nat) (Option.some Jvm.ClassFile.FieldType.long)) ∈ lw_all := lw_g (lw_at lw_m16 17 rfl) rfl
theorem q3738 : (Jvm.Cond.constantDouble "ReserveLedgerModel" (335 : Nat) (4726483295884279808 : UInt64)) ∈ lw_all := lw_g (lw_at lw_m16 18 rfl) rfl
theorem q3747 : (Jvm.Cond.methodLink "ReserveLedgerModel" (340 : Nat) ({ cls := "ReserveLedgerModel", name := "isYear", desc := "(I)Z" } : Jvm.MethodName)) ∈ lw_all := lw_g (lw_at lw_m16 27 rfl) rfl
theorem q3749 : (Jvm.Cond.instanceMethod ({ cls := "ReserveLedgerModel", name := "isYear", desc := "(I)Z" } : Jvm.MethodName)) ∈ lw_all := lw_g (lw_at lw_m16 29 rfl) rfl
theorem q3750 : (Jvm.Cond.code ({ cls := "ReserveLedgerModel", name := "isYear", desc := "(I)Z" } : Jvm.MethodName) prog_39_method_77_code (2 : Nat) (Option.some Jvm.ClassFile.FieldType.boolean)) ∈ lw_all := lw_g (lw_at lw_m16 30 rfl) rfl
theorem q3751 : (Jvm.Cond.methodLink "ReserveLedgerModel" (337 : Nat) ({ cls := "ReserveLedgerModel", name := "firstYear", desc := "()I" } : Jvm.MethodName)) ∈ lw_all := lw_g (lw_at lw_m16 31 rfl) rfl
theorem q3753 : (Jvm.Cond.instanceMethod ({ cls := "ReserveLedgerModel", name := "firstYear", desc := "()I" } : Jvm.MethodName)) ∈ lw_all := lw_g (lw_at lw_m16 33 rfl) rfl
theorem q3754 : (Jvm.Cond.code ({ cls := "ReserveLedgerModel", name := "firstYear", desc := "()I" } : Jvm.MethodName) prog_39_method_76_code (1 : Nat) (Option.some Jvm.ClassFile.FieldType.int)) ∈ lw_all := lw_g (lw_at lw_m16 34 rfl) rfl
theorem q3755 : (Jvm.Cond.methodLink "ReserveLedgerModel" (343 : Nat) ({ cls := "ReserveLedgerModel", name := "ledgerPart", desc := "(III)I" } : Jvm.MethodName)) ∈ lw_all := lw_g (lw_at lw_m16 35 rfl) rfl
theorem q3757 : (Jvm.Cond.instanceMethod ({ cls := "ReserveLedgerModel", name := "ledgerPart", desc := "(III)I" } : Jvm.MethodName)) ∈ lw_all := lw_g (lw_at lw_m16 37 rfl) rfl
theorem q3758 : (Jvm.Cond.code ({ cls := "ReserveLedgerModel", name := "ledgerPart", desc := "(III)I" } : Jvm.MethodName) prog_39_method_78_code (4 : Nat) (Option.some Jvm.ClassFile.FieldType.int)) ∈ lw_all := lw_g (lw_at lw_m16 38 rfl) rfl
theorem q3759 : (Jvm.Cond.methodLink "ReserveLedgerModel" (308 : Nat) ({ cls := "ReserveLedgerModel", name := "part", desc := "(II)I" } : Jvm.MethodName)) ∈ lw_all := lw_g (lw_at lw_m16 39 rfl) rfl
theorem q3761 : (Jvm.Cond.instanceMethod ({ cls := "ReserveLedgerModel", name := "part", desc := "(II)I" } : Jvm.MethodName)) ∈ lw_all := lw_g (lw_at lw_m16 41 rfl) rfl
theorem q3762 : (Jvm.Cond.code ({ cls := "ReserveLedgerModel", name := "part", desc := "(II)I" } : Jvm.MethodName) prog_39_method_59_code (3 : Nat) (Option.some Jvm.ClassFile.FieldType.int)) ∈ lw_all := lw_g (lw_at lw_m16 42 rfl) rfl
theorem q3767 : (Jvm.Cond.methodLink "ReserveLedgerModel" (279 : Nat) ({ cls := "java/lang/Math", name := "min", desc := "(II)I" } : Jvm.MethodName)) ∈ lw_all := lw_g (lw_at lw_m16 47 rfl) rfl
theorem q3776 : (Jvm.Cond.constantLong "ReserveLedgerModel" (347 : Nat) (4 : Int64)) ∈ lw_all := lw_g (lw_at lw_m16 56 rfl) rfl
theorem q3781 : (Jvm.Cond.methodLink "ReserveLedgerModel" (349 : Nat) ({ cls := "ReserveLedgerModel", name := "isGood", desc := "(II)Z" } : Jvm.MethodName)) ∈ lw_all := lw_g (lw_at lw_m16 61 rfl) rfl
theorem q3783 : (Jvm.Cond.instanceMethod ({ cls := "ReserveLedgerModel", name := "isGood", desc := "(II)Z" } : Jvm.MethodName)) ∈ lw_all := lw_g (lw_at lw_m16 63 rfl) rfl
theorem q3784 : (Jvm.Cond.code ({ cls := "ReserveLedgerModel", name := "isGood", desc := "(II)Z" } : Jvm.MethodName) prog_39_method_83_code (5 : Nat) (Option.some Jvm.ClassFile.FieldType.boolean)) ∈ lw_all := lw_g (lw_at lw_m16 64 rfl) rfl
theorem q3789 : (Jvm.Cond.methodLink "ReserveLedgerModel" (352 : Nat) ({ cls := "ReserveLedgerModel", name := "isSighting", desc := "(II)Z" } : Jvm.MethodName)) ∈ lw_all := lw_g (lw_at lw_m16 69 rfl) rfl
theorem q3791 : (Jvm.Cond.instanceMethod ({ cls := "ReserveLedgerModel", name := "isSighting", desc := "(II)Z" } : Jvm.MethodName)) ∈ lw_all := lw_g (lw_at lw_m16 71 rfl) rfl
theorem q3792 : (Jvm.Cond.code ({ cls := "ReserveLedgerModel", name := "isSighting", desc := "(II)Z" } : Jvm.MethodName) prog_39_method_85_code (3 : Nat) (Option.some Jvm.ClassFile.FieldType.boolean)) ∈ lw_all := lw_g (lw_at lw_m16 72 rfl) rfl
theorem q3793 : (Jvm.Cond.methodLink "ReserveLedgerModel" (355 : Nat) ({ cls := "ReserveLedgerModel", name := "sightingOf", desc := "(III)I" } : Jvm.MethodName)) ∈ lw_all := lw_g (lw_at lw_m16 73 rfl) rfl
theorem q3795 : (Jvm.Cond.instanceMethod ({ cls := "ReserveLedgerModel", name := "sightingOf", desc := "(III)I" } : Jvm.MethodName)) ∈ lw_all := lw_g (lw_at lw_m16 75 rfl) rfl
theorem q3796 : (Jvm.Cond.code ({ cls := "ReserveLedgerModel", name := "sightingOf", desc := "(III)I" } : Jvm.MethodName) prog_39_method_86_code (4 : Nat) (Option.some Jvm.ClassFile.FieldType.int)) ∈ lw_all := lw_g (lw_at lw_m16 76 rfl) rfl
theorem q3801 : (Jvm.Cond.methodLink "ReserveLedgerModel" (358 : Nat) ({ cls := "ReserveLedgerModel", name := "estimateOf", desc := "(II)J" } : Jvm.MethodName)) ∈ lw_all := lw_g (lw_at lw_m16 81 rfl) rfl
theorem q3803 : (Jvm.Cond.instanceMethod ({ cls := "ReserveLedgerModel", name := "estimateOf", desc := "(II)J" } : Jvm.MethodName)) ∈ lw_all := lw_g (lw_at lw_m16 83 rfl) rfl
theorem q3804 : (Jvm.Cond.code ({ cls := "ReserveLedgerModel", name := "estimateOf", desc := "(II)J" } : Jvm.MethodName) prog_39_method_88_code (3 : Nat) (Option.some Jvm.ClassFile.FieldType.long)) ∈ lw_all := lw_g (lw_at lw_m16 84 rfl) rfl
theorem q3805 : (Jvm.Cond.constantLong "ReserveLedgerModel" (361 : Nat) (-1 : Int64)) ∈ lw_all := lw_g (lw_at lw_m16 85 rfl) rfl
theorem q3810 : (Jvm.Cond.constantDouble "ReserveLedgerModel" (363 : Nat) (4611686018427387904 : UInt64)) ∈ lw_all := lw_g (lw_at lw_m16 90 rfl) rfl
theorem q3823 : (Jvm.Cond.methodLink "ReserveLedgerModel" (368 : Nat) ({ cls := "ReserveLedgerModel", name := "noYears", desc := "(III)Z" } : Jvm.MethodName)) ∈ lw_all := lw_g (lw_at lw_m16 103 rfl) rfl
theorem q3825 : (Jvm.Cond.instanceMethod ({ cls := "ReserveLedgerModel", name := "noYears", desc := "(III)Z" } : Jvm.MethodName)) ∈ lw_all := lw_g (lw_at lw_m16 105 rfl) rfl
theorem q3826 : (Jvm.Cond.code ({ cls := "ReserveLedgerModel", name := "noYears", desc := "(III)Z" } : Jvm.MethodName) prog_39_method_93_code (4 : Nat) (Option.some Jvm.ClassFile.FieldType.boolean)) ∈ lw_all := lw_g (lw_at lw_m16 106 rfl) rfl
theorem q3827 : (Jvm.Cond.methodLink "ReserveLedgerModel" (372 : Nat) ({ cls := "ReserveLedgerModel", name := "totalBehind", desc := "(II)I" } : Jvm.MethodName)) ∈ lw_all := lw_g (lw_at lw_m16 107 rfl) rfl
theorem q3829 : (Jvm.Cond.instanceMethod ({ cls := "ReserveLedgerModel", name := "totalBehind", desc := "(II)I" } : Jvm.MethodName)) ∈ lw_all := lw_g (lw_at lw_m16 109 rfl) rfl
theorem q3830 : (Jvm.Cond.code ({ cls := "ReserveLedgerModel", name := "totalBehind", desc := "(II)I" } : Jvm.MethodName) prog_39_method_95_code (4 : Nat) (Option.some Jvm.ClassFile.FieldType.int)) ∈ lw_all := lw_g (lw_at lw_m16 110 rfl) rfl
theorem q3831 : (Jvm.Cond.methodLink "ReserveLedgerModel" (365 : Nat) ({ cls := "ReserveLedgerModel", name := "goes", desc := "(II)V" } : Jvm.MethodName)) ∈ lw_all := lw_g (lw_at lw_m16 111 rfl) rfl
theorem q3833 : (Jvm.Cond.instanceMethod ({ cls := "ReserveLedgerModel", name := "goes", desc := "(II)V" } : Jvm.MethodName)) ∈ lw_all := lw_g (lw_at lw_m16 113 rfl) rfl
theorem q3834 : (Jvm.Cond.code ({ cls := "ReserveLedgerModel", name := "goes", desc := "(II)V" } : Jvm.MethodName) prog_39_method_94_code (4 : Nat) (Option.none : Option Jvm.ClassFile.FieldType)) ∈ lw_all := lw_g (lw_at lw_m16 114 rfl) rfl
theorem q3835 : (Jvm.Cond.methodLink "ReserveLedgerModel" (305 : Nat) ({ cls := "ReserveLedgerModel", name := "ages", desc := "(I)V" } : Jvm.MethodName)) ∈ lw_all := lw_g (lw_at lw_m16 115 rfl) rfl
theorem q3837 : (Jvm.Cond.instanceMethod ({ cls := "ReserveLedgerModel", name := "ages", desc := "(I)V" } : Jvm.MethodName)) ∈ lw_all := lw_g (lw_at lw_m16 117 rfl) rfl
theorem q3838 : (Jvm.Cond.code ({ cls := "ReserveLedgerModel", name := "ages", desc := "(I)V" } : Jvm.MethodName) prog_39_method_58_code (8 : Nat) (Option.none : Option Jvm.ClassFile.FieldType)) ∈ lw_all := lw_g (lw_at lw_m16 118 rfl) rfl
theorem q3839 : (Jvm.Cond.methodLink "ReserveLedgerModel" (272 : Nat) ({ cls := "ReserveLedgerModel", name := "losesMarks", desc := "(II)V" } : Jvm.MethodName)) ∈ lw_all := lw_g (lw_at lw_m16 119 rfl) rfl
theorem q3841 : (Jvm.Cond.instanceMethod ({ cls := "ReserveLedgerModel", name := "losesMarks", desc := "(II)V" } : Jvm.MethodName)) ∈ lw_all := lw_g (lw_at lw_m16 121 rfl) rfl
theorem q3842 : (Jvm.Cond.code ({ cls := "ReserveLedgerModel", name := "losesMarks", desc := "(II)V" } : Jvm.MethodName) prog_39_method_51_code (3 : Nat) (Option.none : Option Jvm.ClassFile.FieldType)) ∈ lw_all := lw_g (lw_at lw_m16 122 rfl) rfl
theorem q3843 : (Jvm.Cond.constantLong "ReserveLedgerModel" (300 : Nat) (1000000 : Int64)) ∈ lw_all := lw_g (lw_at lw_m16 123 rfl) rfl
theorem q3860 : (Jvm.Cond.constantLong "ReserveLedgerModel" (378 : Nat) (30 : Int64)) ∈ lw_all := lw_g (lw_at lw_m16 140 rfl) rfl
theorem q3861 : (Jvm.Cond.methodLink "ReserveLedgerModel" (380 : Nat) ({ cls := "ReserveLedgerModel", name := "works", desc := "(IIII)Z" } : Jvm.MethodName)) ∈ lw_all := lw_g (lw_at lw_m16 141 rfl) rfl
theorem q3863 : (Jvm.Cond.instanceMethod ({ cls := "ReserveLedgerModel", name := "works", desc := "(IIII)Z" } : Jvm.MethodName)) ∈ lw_all := lw_g (lw_at lw_m16 143 rfl) rfl
theorem q3864 : (Jvm.Cond.code ({ cls := "ReserveLedgerModel", name := "works", desc := "(IIII)Z" } : Jvm.MethodName) prog_39_method_101_code (7 : Nat) (Option.some Jvm.ClassFile.FieldType.boolean)) ∈ lw_all := lw_g (lw_at lw_m16 144 rfl) rfl
theorem q3865 : (Jvm.Cond.methodLink "ReserveLedgerModel" (375 : Nat) ({ cls := "ReserveLedgerModel", name := "takesOldest", desc := "(II)Z" } : Jvm.MethodName)) ∈ lw_all := lw_g (lw_at lw_m16 145 rfl) rfl
theorem q3867 : (Jvm.Cond.instanceMethod ({ cls := "ReserveLedgerModel", name := "takesOldest", desc := "(II)Z" } : Jvm.MethodName)) ∈ lw_all := lw_g (lw_at lw_m16 147 rfl) rfl
theorem q3868 : (Jvm.Cond.code ({ cls := "ReserveLedgerModel", name := "takesOldest", desc := "(II)Z" } : Jvm.MethodName) prog_39_method_100_code (6 : Nat) (Option.some Jvm.ClassFile.FieldType.boolean)) ∈ lw_all := lw_g (lw_at lw_m16 148 rfl) rfl
theorem q3873 : (Jvm.Cond.constantLong "ReserveLedgerModel" (384 : Nat) (50 : Int64)) ∈ lw_all := lw_g (lw_at lw_m16 153 rfl) rfl
theorem q3874 : (Jvm.Cond.methodLink "ReserveLedgerModel" (386 : Nat) ({ cls := "ReserveLedgerModel", name := "keeps", desc := "()V" } : Jvm.MethodName)) ∈ lw_all := lw_g (lw_at lw_m16 154 rfl) rfl
theorem q3876 : (Jvm.Cond.instanceMethod ({ cls := "ReserveLedgerModel", name := "keeps", desc := "()V" } : Jvm.MethodName)) ∈ lw_all := lw_g (lw_at lw_m16 156 rfl) rfl
theorem q3877 : (Jvm.Cond.code ({ cls := "ReserveLedgerModel", name := "keeps", desc := "()V" } : Jvm.MethodName) prog_39_method_7_code (2 : Nat) (Option.none : Option Jvm.ClassFile.FieldType)) ∈ lw_all := lw_g (lw_at lw_m16 157 rfl) rfl
theorem q3878 : (Jvm.Cond.methodLink "ReserveLedgerModel" (389 : Nat) ({ cls := "ReserveLedgerModel", name := "closes", desc := "()I" } : Jvm.MethodName)) ∈ lw_all := lw_g (lw_at lw_m16 158 rfl) rfl
theorem q3880 : (Jvm.Cond.instanceMethod ({ cls := "ReserveLedgerModel", name := "closes", desc := "()I" } : Jvm.MethodName)) ∈ lw_all := lw_g (lw_at lw_m16 160 rfl) rfl
theorem q3881 : (Jvm.Cond.code ({ cls := "ReserveLedgerModel", name := "closes", desc := "()I" } : Jvm.MethodName) prog_39_method_60_code (4 : Nat) (Option.some Jvm.ClassFile.FieldType.int)) ∈ lw_all := lw_g (lw_at lw_m16 161 rfl) rfl
theorem q3882 : (Jvm.Cond.methodLink "ReserveLedgerModel" (302 : Nat) ({ cls := "ReserveLedgerModel", name := "carriesOutAll", desc := "()I" } : Jvm.MethodName)) ∈ lw_all := lw_g (lw_at lw_m16 162 rfl) rfl
theorem q3884 : (Jvm.Cond.instanceMethod ({ cls := "ReserveLedgerModel", name := "carriesOutAll", desc := "()I" } : Jvm.MethodName)) ∈ lw_all := lw_g (lw_at lw_m16 164 rfl) rfl
theorem q3885 : (Jvm.Cond.code ({ cls := "ReserveLedgerModel", name := "carriesOutAll", desc := "()I" } : Jvm.MethodName) prog_39_method_57_code (2 : Nat) (Option.some Jvm.ClassFile.FieldType.int)) ∈ lw_all := lw_g (lw_at lw_m16 165 rfl) rfl
theorem q3886 : (Jvm.Cond.methodLink "ReserveLedgerModel" (294 : Nat) ({ cls := "ReserveLedgerModel", name := "carriesOut", desc := "(I)V" } : Jvm.MethodName)) ∈ lw_all := lw_g (lw_at lw_m16 166 rfl) rfl
theorem q3888 : (Jvm.Cond.instanceMethod ({ cls := "ReserveLedgerModel", name := "carriesOut", desc := "(I)V" } : Jvm.MethodName)) ∈ lw_all := lw_g (lw_at lw_m16 168 rfl) rfl
theorem q3889 : (Jvm.Cond.code ({ cls := "ReserveLedgerModel", name := "carriesOut", desc := "(I)V" } : Jvm.MethodName) prog_39_method_55_code (7 : Nat) (Option.none : Option Jvm.ClassFile.FieldType)) ∈ lw_all := lw_g (lw_at lw_m16 169 rfl) rfl
theorem q3890 : (Jvm.Cond.constant "ReserveLedgerModel" (278 : Nat) (1000000 : Int32)) ∈ lw_all := lw_g (lw_at lw_m16 170 rfl) rfl
theorem q3891 : (Jvm.Cond.methodLink "ReserveLedgerModel" (281 : Nat) ({ cls := "ReserveLedgerModel", name := "adds", desc := "(III)V" } : Jvm.MethodName)) ∈ lw_all := lw_g (lw_at lw_m16 171 rfl) rfl
theorem q3893 : (Jvm.Cond.instanceMethod ({ cls := "ReserveLedgerModel", name := "adds", desc := "(III)V" } : Jvm.MethodName)) ∈ lw_all := lw_g (lw_at lw_m16 173 rfl) rfl
theorem q3894 : (Jvm.Cond.code ({ cls := "ReserveLedgerModel", name := "adds", desc := "(III)V" } : Jvm.MethodName) prog_39_method_52_code (4 : Nat) (Option.none : Option Jvm.ClassFile.FieldType)) ∈ lw_all := lw_g (lw_at lw_m16 174 rfl) rfl
theorem q3895 : (Jvm.Cond.methodLink "ReserveLedgerModel" (287 : Nat) ({ cls := "ReserveLedgerModel", name := "takesOut", desc := "(III)V" } : Jvm.MethodName)) ∈ lw_all := lw_g (lw_at lw_m16 175 rfl) rfl
theorem q3897 : (Jvm.Cond.instanceMethod ({ cls := "ReserveLedgerModel", name := "takesOut", desc := "(III)V" } : Jvm.MethodName)) ∈ lw_all := lw_g (lw_at lw_m16 177 rfl) rfl
theorem q3898 : (Jvm.Cond.code ({ cls := "ReserveLedgerModel", name := "takesOut", desc := "(III)V" } : Jvm.MethodName) prog_39_method_53_code (5 : Nat) (Option.none : Option Jvm.ClassFile.FieldType)) ∈ lw_all := lw_g (lw_at lw_m16 178 rfl) rfl
theorem q3899 : (Jvm.Cond.methodLink "ReserveLedgerModel" (290 : Nat) ({ cls := "ReserveLedgerModel", name := "sickens", desc := "(IIII)I" } : Jvm.MethodName)) ∈ lw_all := lw_g (lw_at lw_m16 179 rfl) rfl
theorem q3901 : (Jvm.Cond.instanceMethod ({ cls := "ReserveLedgerModel", name := "sickens", desc := "(IIII)I" } : Jvm.MethodName)) ∈ lw_all := lw_g (lw_at lw_m16 181 rfl) rfl
theorem q3902 : (Jvm.Cond.code ({ cls := "ReserveLedgerModel", name := "sickens", desc := "(IIII)I" } : Jvm.MethodName) prog_39_method_54_code (9 : Nat) (Option.some Jvm.ClassFile.FieldType.int)) ∈ lw_all := lw_g (lw_at lw_m16 182 rfl) rfl
theorem q3903 : (Jvm.Cond.methodLink "ReserveLedgerModel" (297 : Nat) ({ cls := "ReserveLedgerModel", name := "removesPlan", desc := "(I)V" } : Jvm.MethodName)) ∈ lw_all := lw_g (lw_at lw_m16 183 rfl) rfl
theorem q3905 : (Jvm.Cond.instanceMethod ({ cls := "ReserveLedgerModel", name := "removesPlan", desc := "(I)V" } : Jvm.MethodName)) ∈ lw_all := lw_g (lw_at lw_m16 185 rfl) rfl
theorem q3906 : (Jvm.Cond.code ({ cls := "ReserveLedgerModel", name := "removesPlan", desc := "(I)V" } : Jvm.MethodName) prog_39_method_56_code (3 : Nat) (Option.none : Option Jvm.ClassFile.FieldType)) ∈ lw_all := lw_g (lw_at lw_m16 186 rfl) rfl
theorem q3931 : (Jvm.Cond.constantLong "ReserveLedgerModel" (392 : Nat) (9999 : Int64)) ∈ lw_all := lw_g (lw_at lw_m16 211 rfl) rfl
theorem q3932 : (Jvm.Cond.constantLong "ReserveLedgerModel" (394 : Nat) (2 : Int64)) ∈ lw_all := lw_g (lw_at lw_m16 212 rfl) rfl
theorem q3933 : (Jvm.Cond.methodLink "ReserveLedgerModel" (396 : Nat) ({ cls := "ReserveLedgerModel", name := "isAhead", desc := "(I)Z" } : Jvm.MethodName)) ∈ lw_all := lw_g (lw_at lw_m16 213 rfl) rfl
theorem q3935 : (Jvm.Cond.instanceMethod ({ cls := "ReserveLedgerModel", name := "isAhead", desc := "(I)Z" } : Jvm.MethodName)) ∈ lw_all := lw_g (lw_at lw_m16 215 rfl) rfl
theorem q3936 : (Jvm.Cond.code ({ cls := "ReserveLedgerModel", name := "isAhead", desc := "(I)Z" } : Jvm.MethodName) prog_39_method_109_code (3 : Nat) (Option.some Jvm.ClassFile.FieldType.boolean)) ∈ lw_all := lw_g (lw_at lw_m16 216 rfl) rfl
theorem q3949 : (Jvm.Cond.constantLong "ReserveLedgerModel" (399 : Nat) (99999 : Int64)) ∈ lw_all := lw_g (lw_at lw_m16 229 rfl) rfl
theorem q3954 : (Jvm.Cond.methodLink "ReserveLedgerModel" (404 : Nat) ({ cls := "ReserveLedgerModel", name := "saysName", desc := "(I)V" } : Jvm.MethodName)) ∈ lw_all := lw_g (lw_at lw_m16 234 rfl) rfl
theorem q3956 : (Jvm.Cond.instanceMethod ({ cls := "ReserveLedgerModel", name := "saysName", desc := "(I)V" } : Jvm.MethodName)) ∈ lw_all := lw_g (lw_at lw_m16 236 rfl) rfl
theorem q3957 : (Jvm.Cond.code ({ cls := "ReserveLedgerModel", name := "saysName", desc := "(I)V" } : Jvm.MethodName) prog_39_method_115_code (2 : Nat) (Option.none : Option Jvm.ClassFile.FieldType)) ∈ lw_all := lw_g (lw_at lw_m16 237 rfl) rfl
theorem q3958 : (Jvm.Cond.methodLink "ReserveLedgerModel" (407 : Nat) ({ cls := "ReserveLedgerModel", name := "says", desc := "(I)V" } : Jvm.MethodName)) ∈ lw_all := lw_g (lw_at lw_m16 238 rfl) rfl
theorem q3960 : (Jvm.Cond.instanceMethod ({ cls := "ReserveLedgerModel", name := "says", desc := "(I)V" } : Jvm.MethodName)) ∈ lw_all := lw_g (lw_at lw_m17 0 rfl) rfl
theorem q3961 : (Jvm.Cond.code ({ cls := "ReserveLedgerModel", name := "says", desc := "(I)V" } : Jvm.MethodName) prog_39_method_114_code (2 : Nat) (Option.none : Option Jvm.ClassFile.FieldType)) ∈ lw_all := lw_g (lw_at lw_m17 1 rfl) rfl
theorem q3962 : (Jvm.Cond.methodLink "ReserveLedgerModel" (410 : Nat) ({ cls := "ReserveLedgerModel", name := "saysNumber", desc := "(I)V" } : Jvm.MethodName)) ∈ lw_all := lw_g (lw_at lw_m17 2 rfl) rfl
theorem q3964 : (Jvm.Cond.instanceMethod ({ cls := "ReserveLedgerModel", name := "saysNumber", desc := "(I)V" } : Jvm.MethodName)) ∈ lw_all := lw_g (lw_at lw_m17 4 rfl) rfl
theorem q3965 : (Jvm.Cond.code ({ cls := "ReserveLedgerModel", name := "saysNumber", desc := "(I)V" } : Jvm.MethodName) prog_39_method_116_code (2 : Nat) (Option.none : Option Jvm.ClassFile.FieldType)) ∈ lw_all := lw_g (lw_at lw_m17 5 rfl) rfl
theorem q3970 : (Jvm.Cond.methodLink "ReserveLedgerModel" (413 : Nat) ({ cls := "ReserveLedgerModel", name := "saysPart", desc := "(IIII)V" } : Jvm.MethodName)) ∈ lw_all := lw_g (lw_at lw_m17 10 rfl) rfl
theorem q3972 : (Jvm.Cond.instanceMethod ({ cls := "ReserveLedgerModel", name := "saysPart", desc := "(IIII)V" } : Jvm.MethodName)) ∈ lw_all := lw_g (lw_at lw_m17 12 rfl) rfl
theorem q3973 : (Jvm.Cond.code ({ cls := "ReserveLedgerModel", name := "saysPart", desc := "(IIII)V" } : Jvm.MethodName) prog_39_method_118_code (5 : Nat) (Option.none : Option Jvm.ClassFile.FieldType)) ∈ lw_all := lw_g (lw_at lw_m17 13 rfl) rfl
theorem n_J12_max : ∀ sig, parseMethodDescriptor yJ12_max.desc = some sig → 2 = sig.parameters.length := xln (by decide +kernel)
theorem n_J12_max_2 : ∀ sig, parseMethodDescriptor yJ12_max_2.desc = some sig → 2 = sig.parameters.length := xln (by decide +kernel)
theorem n_J12_min : ∀ sig, parseMethodDescriptor yJ12_min.desc = some sig → 2 = sig.parameters.length := xln (by decide +kernel)
theorem n_J12_min_2 : ∀ sig, parseMethodDescriptor yJ12_min_2.desc = some sig → 2 = sig.parameters.length := xln (by decide +kernel)
theorem n_J14_checkIndex : ∀ sig, parseMethodDescriptor yJ14_checkIndex.desc = some sig → 3 = sig.parameters.length := xln (by decide +kernel)
theorem n_J15_charAt : ∀ sig, parseMethodDescriptor yJ15_charAt.desc = some sig → 2 = sig.parameters.length := xln (by decide +kernel)
theorem n_J9_charAt : ∀ sig, parseMethodDescriptor yJ9_charAt.desc = some sig → 1 = sig.parameters.length := xln (by decide +kernel)
theorem n_J9_checkIndex : ∀ sig, parseMethodDescriptor yJ9_checkIndex.desc = some sig → 2 = sig.parameters.length := xln (by decide +kernel)
theorem n_J9_coder : ∀ sig, parseMethodDescriptor yJ9_coder.desc = some sig → 0 = sig.parameters.length := xln (by decide +kernel)
theorem n_J9_isLatin1 : ∀ sig, parseMethodDescriptor yJ9_isLatin1.desc = some sig → 0 = sig.parameters.length := xln (by decide +kernel)
theorem n_J9_length : ∀ sig, parseMethodDescriptor yJ9_length.desc = some sig → 0 = sig.parameters.length := xln (by decide +kernel)
theorem n_X3_adds : ∀ sig, parseMethodDescriptor yX3_adds.desc = some sig → 3 = sig.parameters.length := xln (by decide +kernel)
theorem n_X3_adultsOf : ∀ sig, parseMethodDescriptor yX3_adultsOf.desc = some sig → 1 = sig.parameters.length := xln (by decide +kernel)
theorem n_X3_ages : ∀ sig, parseMethodDescriptor yX3_ages.desc = some sig → 1 = sig.parameters.length := xln (by decide +kernel)
theorem n_X3_aliveOf : ∀ sig, parseMethodDescriptor yX3_aliveOf.desc = some sig → 2 = sig.parameters.length := xln (by decide +kernel)
theorem n_X3_at : ∀ sig, parseMethodDescriptor yX3_at.desc = some sig → 2 = sig.parameters.length := xln (by decide +kernel)
theorem n_X3_begins : ∀ sig, parseMethodDescriptor yX3_begins.desc = some sig → 0 = sig.parameters.length := xln (by decide +kernel)
theorem n_X3_blanks : ∀ sig, parseMethodDescriptor yX3_blanks.desc = some sig → 0 = sig.parameters.length := xln (by decide +kernel)
theorem n_X3_bornOf : ∀ sig, parseMethodDescriptor yX3_bornOf.desc = some sig → 2 = sig.parameters.length := xln (by decide +kernel)
theorem n_X3_carriesOut : ∀ sig, parseMethodDescriptor yX3_carriesOut.desc = some sig → 1 = sig.parameters.length := xln (by decide +kernel)
theorem n_X3_carriesOutAll : ∀ sig, parseMethodDescriptor yX3_carriesOutAll.desc = some sig → 0 = sig.parameters.length := xln (by decide +kernel)
theorem n_X3_closes : ∀ sig, parseMethodDescriptor yX3_closes.desc = some sig → 0 = sig.parameters.length := xln (by decide +kernel)
theorem n_X3_closesBracket : ∀ sig, parseMethodDescriptor yX3_closesBracket.desc = some sig → 0 = sig.parameters.length := xln (by decide +kernel)
theorem n_X3_cohortOf : ∀ sig, parseMethodDescriptor yX3_cohortOf.desc = some sig → 2 = sig.parameters.length := xln (by decide +kernel)
theorem n_X3_copies : ∀ sig, parseMethodDescriptor yX3_copies.desc = some sig → 4 = sig.parameters.length := xln (by decide +kernel)
theorem n_X3_estimateOf : ∀ sig, parseMethodDescriptor yX3_estimateOf.desc = some sig → 2 = sig.parameters.length := xln (by decide +kernel)
theorem n_X3_firstYear : ∀ sig, parseMethodDescriptor yX3_firstYear.desc = some sig → 0 = sig.parameters.length := xln (by decide +kernel)
theorem n_X3_goes : ∀ sig, parseMethodDescriptor yX3_goes.desc = some sig → 2 = sig.parameters.length := xln (by decide +kernel)
theorem n_X3_hasFailed : ∀ sig, parseMethodDescriptor yX3_hasFailed.desc = some sig → 0 = sig.parameters.length := xln (by decide +kernel)
theorem n_X3_in : ∀ sig, parseMethodDescriptor yX3_in.desc = some sig → 3 = sig.parameters.length := xln (by decide +kernel)
theorem n_X3_isAhead : ∀ sig, parseMethodDescriptor yX3_isAhead.desc = some sig → 1 = sig.parameters.length := xln (by decide +kernel)
theorem n_X3_isAt : ∀ sig, parseMethodDescriptor yX3_isAt.desc = some sig → 2 = sig.parameters.length := xln (by decide +kernel)
theorem n_X3_isGood : ∀ sig, parseMethodDescriptor yX3_isGood.desc = some sig → 2 = sig.parameters.length := xln (by decide +kernel)
theorem n_X3_isSighting : ∀ sig, parseMethodDescriptor yX3_isSighting.desc = some sig → 2 = sig.parameters.length := xln (by decide +kernel)
theorem n_X3_isYear : ∀ sig, parseMethodDescriptor yX3_isYear.desc = some sig → 1 = sig.parameters.length := xln (by decide +kernel)
theorem n_X3_keeps : ∀ sig, parseMethodDescriptor yX3_keeps.desc = some sig → 0 = sig.parameters.length := xln (by decide +kernel)
theorem n_X3_ledgerPart : ∀ sig, parseMethodDescriptor yX3_ledgerPart.desc = some sig → 3 = sig.parameters.length := xln (by decide +kernel)
theorem n_X3_leftOf : ∀ sig, parseMethodDescriptor yX3_leftOf.desc = some sig → 1 = sig.parameters.length := xln (by decide +kernel)
theorem n_X3_limited : ∀ sig, parseMethodDescriptor yX3_limited.desc = some sig → 1 = sig.parameters.length := xln (by decide +kernel)
theorem n_X3_losesMarks : ∀ sig, parseMethodDescriptor yX3_losesMarks.desc = some sig → 2 = sig.parameters.length := xln (by decide +kernel)
theorem n_X3_must : ∀ sig, parseMethodDescriptor yX3_must.desc = some sig → 2 = sig.parameters.length := xln (by decide +kernel)
theorem n_X3_nameHere : ∀ sig, parseMethodDescriptor yX3_nameHere.desc = some sig → 0 = sig.parameters.length := xln (by decide +kernel)
theorem n_X3_named : ∀ sig, parseMethodDescriptor yX3_named.desc = some sig → 1 = sig.parameters.length := xln (by decide +kernel)
theorem n_X3_needs : ∀ sig, parseMethodDescriptor yX3_needs.desc = some sig → 1 = sig.parameters.length := xln (by decide +kernel)
theorem n_X3_noAge : ∀ sig, parseMethodDescriptor yX3_noAge.desc = some sig → 2 = sig.parameters.length := xln (by decide +kernel)
theorem n_X3_noSpecies : ∀ sig, parseMethodDescriptor yX3_noSpecies.desc = some sig → 1 = sig.parameters.length := xln (by decide +kernel)
theorem n_X3_noYears : ∀ sig, parseMethodDescriptor yX3_noYears.desc = some sig → 3 = sig.parameters.length := xln (by decide +kernel)
theorem n_X3_number : ∀ sig, parseMethodDescriptor yX3_number.desc = some sig → 2 = sig.parameters.length := xln (by decide +kernel)
theorem n_X3_of : ∀ sig, parseMethodDescriptor yX3_of.desc = some sig → 2 = sig.parameters.length := xln (by decide +kernel)
theorem n_X3_oldest : ∀ sig, parseMethodDescriptor yX3_oldest.desc = some sig → 1 = sig.parameters.length := xln (by decide +kernel)
theorem n_X3_opens : ∀ sig, parseMethodDescriptor yX3_opens.desc = some sig → 1 = sig.parameters.length := xln (by decide +kernel)
theorem n_X3_opensBracket : ∀ sig, parseMethodDescriptor yX3_opensBracket.desc = some sig → 0 = sig.parameters.length := xln (by decide +kernel)
theorem n_X3_part : ∀ sig, parseMethodDescriptor yX3_part.desc = some sig → 2 = sig.parameters.length := xln (by decide +kernel)
theorem n_X3_puts : ∀ sig, parseMethodDescriptor yX3_puts.desc = some sig → 1 = sig.parameters.length := xln (by decide +kernel)
theorem n_X3_putsAside : ∀ sig, parseMethodDescriptor yX3_putsAside.desc = some sig → 0 = sig.parameters.length := xln (by decide +kernel)
theorem n_X3_readAllow : ∀ sig, parseMethodDescriptor yX3_readAllow.desc = some sig → 1 = sig.parameters.length := xln (by decide +kernel)
theorem n_X3_readFactor : ∀ sig, parseMethodDescriptor yX3_readFactor.desc = some sig → 0 = sig.parameters.length := xln (by decide +kernel)
theorem n_X3_readLine : ∀ sig, parseMethodDescriptor yX3_readLine.desc = some sig → 0 = sig.parameters.length := xln (by decide +kernel)
theorem n_X3_readOf : ∀ sig, parseMethodDescriptor yX3_readOf.desc = some sig → 1 = sig.parameters.length := xln (by decide +kernel)
theorem n_X3_readPair : ∀ sig, parseMethodDescriptor yX3_readPair.desc = some sig → 1 = sig.parameters.length := xln (by decide +kernel)
theorem n_X3_readRow : ∀ sig, parseMethodDescriptor yX3_readRow.desc = some sig → 3 = sig.parameters.length := xln (by decide +kernel)
theorem n_X3_readSpecies : ∀ sig, parseMethodDescriptor yX3_readSpecies.desc = some sig → 1 = sig.parameters.length := xln (by decide +kernel)
theorem n_X3_readSum : ∀ sig, parseMethodDescriptor yX3_readSum.desc = some sig → 0 = sig.parameters.length := xln (by decide +kernel)
theorem n_X3_readTerm : ∀ sig, parseMethodDescriptor yX3_readTerm.desc = some sig → 0 = sig.parameters.length := xln (by decide +kernel)
theorem n_X3_removesPlan : ∀ sig, parseMethodDescriptor yX3_removesPlan.desc = some sig → 1 = sig.parameters.length := xln (by decide +kernel)
theorem n_X3_says : ∀ sig, parseMethodDescriptor yX3_says.desc = some sig → 1 = sig.parameters.length := xln (by decide +kernel)
theorem n_X3_saysName : ∀ sig, parseMethodDescriptor yX3_saysName.desc = some sig → 1 = sig.parameters.length := xln (by decide +kernel)
theorem n_X3_saysNumber : ∀ sig, parseMethodDescriptor yX3_saysNumber.desc = some sig → 1 = sig.parameters.length := xln (by decide +kernel)
theorem n_X3_saysPart : ∀ sig, parseMethodDescriptor yX3_saysPart.desc = some sig → 4 = sig.parameters.length := xln (by decide +kernel)
theorem n_X3_sickens : ∀ sig, parseMethodDescriptor yX3_sickens.desc = some sig → 4 = sig.parameters.length := xln (by decide +kernel)
theorem n_X3_sightingOf : ∀ sig, parseMethodDescriptor yX3_sightingOf.desc = some sig → 3 = sig.parameters.length := xln (by decide +kernel)
theorem n_X3_takes : ∀ sig, parseMethodDescriptor yX3_takes.desc = some sig → 1 = sig.parameters.length := xln (by decide +kernel)
theorem n_X3_takesBack : ∀ sig, parseMethodDescriptor yX3_takesBack.desc = some sig → 0 = sig.parameters.length := xln (by decide +kernel)
theorem n_X3_takesOldest : ∀ sig, parseMethodDescriptor yX3_takesOldest.desc = some sig → 2 = sig.parameters.length := xln (by decide +kernel)
theorem n_X3_takesOut : ∀ sig, parseMethodDescriptor yX3_takesOut.desc = some sig → 3 = sig.parameters.length := xln (by decide +kernel)
theorem n_X3_takesSign : ∀ sig, parseMethodDescriptor yX3_takesSign.desc = some sig → 1 = sig.parameters.length := xln (by decide +kernel)
theorem n_X3_throwsIf : ∀ sig, parseMethodDescriptor yX3_throwsIf.desc = some sig → 2 = sig.parameters.length := xln (by decide +kernel)
theorem n_X3_totalBehind : ∀ sig, parseMethodDescriptor yX3_totalBehind.desc = some sig → 2 = sig.parameters.length := xln (by decide +kernel)
theorem n_X3_totalOf : ∀ sig, parseMethodDescriptor yX3_totalOf.desc = some sig → 1 = sig.parameters.length := xln (by decide +kernel)
theorem n_X3_valueOf : ∀ sig, parseMethodDescriptor yX3_valueOf.desc = some sig → 1 = sig.parameters.length := xln (by decide +kernel)
theorem n_X3_wordHere : ∀ sig, parseMethodDescriptor yX3_wordHere.desc = some sig → 0 = sig.parameters.length := xln (by decide +kernel)
theorem n_X3_worked : ∀ sig, parseMethodDescriptor yX3_worked.desc = some sig → 3 = sig.parameters.length := xln (by decide +kernel)
theorem n_X3_works : ∀ sig, parseMethodDescriptor yX3_works.desc = some sig → 4 = sig.parameters.length := xln (by decide +kernel)
