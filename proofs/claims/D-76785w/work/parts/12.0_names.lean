/-! names: J17 J18 J19 J20 J21 J22 (starting texts) -/
set_option maxRecDepth 100000
/-! jdk/internal/util/ArraysSupport -/
set_option maxRecDepth 100000
def RJ17 : String := "jdk/internal/util/ArraysSupport"
abbrev cJ17_newLength : ByteArray := prog_85_method_27_code
def yJ17_newLength : MethodName := ⟨RJ17, "newLength", "(III)I"⟩
def dkwJ17_newLength_1 : List UInt8 := [184, 0, 201, 172]
abbrev dktJ17_newLength_1 : List UInt8 := dkwJ17_newLength_1 ++ []
def dkwJ17_newLength_0 : List UInt8 := [26, 27, 28, 184, 0, 194, 96, 62, 3, 29, 162, 0, 11, 29, 18, 200, 163, 0, 5, 29, 172, 26, 27]
abbrev dktJ17_newLength_0 : List UInt8 := dkwJ17_newLength_0 ++ dktJ17_newLength_1
theorem dksJ17_newLength_0 : cJ17_newLength.data.toList.drop 0 = dktJ17_newLength_0 := by decide +kernel
theorem dksJ17_newLength_1 : cJ17_newLength.data.toList.drop 23 = dktJ17_newLength_1 := dk_seg dksJ17_newLength_0 23 rfl rfl
theorem dJ17_newLength_0 : decode cJ17_newLength 0 = .ok (.iload_n 0, 1) := dk_26 (dk_at dksJ17_newLength_0 0 rfl rfl)
theorem dJ17_newLength_1 : decode cJ17_newLength 1 = .ok (.iload_n 1, 1) := dk_27 (dk_at dksJ17_newLength_0 1 rfl rfl)
theorem dJ17_newLength_2 : decode cJ17_newLength 2 = .ok (.iload_n 2, 1) := dk_28 (dk_at dksJ17_newLength_0 2 rfl rfl)
theorem dJ17_newLength_3 : decode cJ17_newLength 3 = .ok (.invokestatic 194, 3) := dk_184 0 194 (dk_at dksJ17_newLength_0 3 rfl rfl)
theorem dJ17_newLength_6 : decode cJ17_newLength 6 = .ok (.iadd, 1) := dk_96 (dk_at dksJ17_newLength_0 6 rfl rfl)
theorem dJ17_newLength_7 : decode cJ17_newLength 7 = .ok (.istore_n 3, 1) := dk_62 (dk_at dksJ17_newLength_0 7 rfl rfl)
theorem dJ17_newLength_8 : decode cJ17_newLength 8 = .ok (.iconst 0, 1) := dk_3 (dk_at dksJ17_newLength_0 8 rfl rfl)
theorem dJ17_newLength_9 : decode cJ17_newLength 9 = .ok (.iload_n 3, 1) := dk_29 (dk_at dksJ17_newLength_0 9 rfl rfl)
theorem dJ17_newLength_10 : decode cJ17_newLength 10 = .ok (.if_icmp .ge 11, 3) := dk_162 0 11 (dk_at dksJ17_newLength_0 10 rfl rfl)
theorem dJ17_newLength_13 : decode cJ17_newLength 13 = .ok (.iload_n 3, 1) := dk_29 (dk_at dksJ17_newLength_0 13 rfl rfl)
theorem dJ17_newLength_14 : decode cJ17_newLength 14 = .ok (.ldc 200, 2) := dk_18 200 (dk_at dksJ17_newLength_0 14 rfl rfl)
theorem dJ17_newLength_16 : decode cJ17_newLength 16 = .ok (.if_icmp .gt 5, 3) := dk_163 0 5 (dk_at dksJ17_newLength_0 16 rfl rfl)
theorem dJ17_newLength_19 : decode cJ17_newLength 19 = .ok (.iload_n 3, 1) := dk_29 (dk_at dksJ17_newLength_0 19 rfl rfl)
theorem dJ17_newLength_20 : decode cJ17_newLength 20 = .ok (.ireturn, 1) := dk_172 (dk_at dksJ17_newLength_0 20 rfl rfl)
theorem dJ17_newLength_21 : decode cJ17_newLength 21 = .ok (.iload_n 0, 1) := dk_26 (dk_at dksJ17_newLength_0 21 rfl rfl)
theorem dJ17_newLength_22 : decode cJ17_newLength 22 = .ok (.iload_n 1, 1) := dk_27 (dk_at dksJ17_newLength_0 22 rfl rfl)
theorem dJ17_newLength_23 : decode cJ17_newLength 23 = .ok (.invokestatic 201, 3) := dk_184 0 201 (dk_at dksJ17_newLength_1 0 rfl rfl)
theorem dJ17_newLength_26 : decode cJ17_newLength 26 = .ok (.ireturn, 1) := dk_172 (dk_at dksJ17_newLength_1 3 rfl rfl)
abbrev cJ17_hugeLength : ByteArray := prog_85_method_28_code
def yJ17_hugeLength : MethodName := ⟨RJ17, "hugeLength", "(II)I"⟩
def dkwJ17_hugeLength_2 : List UInt8 := [191, 28, 18, 200, 163, 0, 6, 18, 200, 172, 28, 172]
abbrev dktJ17_hugeLength_2 : List UInt8 := dkwJ17_hugeLength_2 ++ []
def dkwJ17_hugeLength_1 : List UInt8 := [26, 182, 0, 98, 18, 208, 182, 0, 94, 27, 182, 0, 98, 18, 210, 182, 0, 94, 182, 0, 101, 183, 0, 212]
abbrev dktJ17_hugeLength_1 : List UInt8 := dkwJ17_hugeLength_1 ++ dktJ17_hugeLength_2
def dkwJ17_hugeLength_0 : List UInt8 := [26, 27, 96, 61, 28, 156, 0, 44, 187, 0, 204, 89, 187, 0, 89, 89, 183, 0, 91, 18, 206, 182, 0, 94]
abbrev dktJ17_hugeLength_0 : List UInt8 := dkwJ17_hugeLength_0 ++ dktJ17_hugeLength_1
theorem dksJ17_hugeLength_0 : cJ17_hugeLength.data.toList.drop 0 = dktJ17_hugeLength_0 := by decide +kernel
theorem dksJ17_hugeLength_1 : cJ17_hugeLength.data.toList.drop 24 = dktJ17_hugeLength_1 := dk_seg dksJ17_hugeLength_0 24 rfl rfl
theorem dksJ17_hugeLength_2 : cJ17_hugeLength.data.toList.drop 48 = dktJ17_hugeLength_2 := dk_seg dksJ17_hugeLength_1 24 rfl rfl
theorem dJ17_hugeLength_0 : decode cJ17_hugeLength 0 = .ok (.iload_n 0, 1) := dk_26 (dk_at dksJ17_hugeLength_0 0 rfl rfl)
theorem dJ17_hugeLength_1 : decode cJ17_hugeLength 1 = .ok (.iload_n 1, 1) := dk_27 (dk_at dksJ17_hugeLength_0 1 rfl rfl)
theorem dJ17_hugeLength_2 : decode cJ17_hugeLength 2 = .ok (.iadd, 1) := dk_96 (dk_at dksJ17_hugeLength_0 2 rfl rfl)
theorem dJ17_hugeLength_3 : decode cJ17_hugeLength 3 = .ok (.istore_n 2, 1) := dk_61 (dk_at dksJ17_hugeLength_0 3 rfl rfl)
theorem dJ17_hugeLength_4 : decode cJ17_hugeLength 4 = .ok (.iload_n 2, 1) := dk_28 (dk_at dksJ17_hugeLength_0 4 rfl rfl)
theorem dJ17_hugeLength_5 : decode cJ17_hugeLength 5 = .ok (.ifCond .ge 44, 3) := dk_156 0 44 (dk_at dksJ17_hugeLength_0 5 rfl rfl)
theorem dJ17_hugeLength_8 : decode cJ17_hugeLength 8 = .ok (.new 204, 3) := dk_187 0 204 (dk_at dksJ17_hugeLength_0 8 rfl rfl)
theorem dJ17_hugeLength_11 : decode cJ17_hugeLength 11 = .ok (.dup, 1) := dk_89 (dk_at dksJ17_hugeLength_0 11 rfl rfl)
theorem dJ17_hugeLength_12 : decode cJ17_hugeLength 12 = .ok (.new 89, 3) := dk_187 0 89 (dk_at dksJ17_hugeLength_0 12 rfl rfl)
theorem dJ17_hugeLength_15 : decode cJ17_hugeLength 15 = .ok (.dup, 1) := dk_89 (dk_at dksJ17_hugeLength_0 15 rfl rfl)
theorem dJ17_hugeLength_16 : decode cJ17_hugeLength 16 = .ok (.invokespecial 91, 3) := dk_183 0 91 (dk_at dksJ17_hugeLength_0 16 rfl rfl)
theorem dJ17_hugeLength_19 : decode cJ17_hugeLength 19 = .ok (.ldc 206, 2) := dk_18 206 (dk_at dksJ17_hugeLength_0 19 rfl rfl)
theorem dJ17_hugeLength_21 : decode cJ17_hugeLength 21 = .ok (.invokevirtual 94, 3) := dk_182 0 94 (dk_at dksJ17_hugeLength_0 21 rfl rfl)
theorem dJ17_hugeLength_24 : decode cJ17_hugeLength 24 = .ok (.iload_n 0, 1) := dk_26 (dk_at dksJ17_hugeLength_1 0 rfl rfl)
theorem dJ17_hugeLength_25 : decode cJ17_hugeLength 25 = .ok (.invokevirtual 98, 3) := dk_182 0 98 (dk_at dksJ17_hugeLength_1 1 rfl rfl)
theorem dJ17_hugeLength_28 : decode cJ17_hugeLength 28 = .ok (.ldc 208, 2) := dk_18 208 (dk_at dksJ17_hugeLength_1 4 rfl rfl)
theorem dJ17_hugeLength_30 : decode cJ17_hugeLength 30 = .ok (.invokevirtual 94, 3) := dk_182 0 94 (dk_at dksJ17_hugeLength_1 6 rfl rfl)
theorem dJ17_hugeLength_33 : decode cJ17_hugeLength 33 = .ok (.iload_n 1, 1) := dk_27 (dk_at dksJ17_hugeLength_1 9 rfl rfl)
theorem dJ17_hugeLength_34 : decode cJ17_hugeLength 34 = .ok (.invokevirtual 98, 3) := dk_182 0 98 (dk_at dksJ17_hugeLength_1 10 rfl rfl)
theorem dJ17_hugeLength_37 : decode cJ17_hugeLength 37 = .ok (.ldc 210, 2) := dk_18 210 (dk_at dksJ17_hugeLength_1 13 rfl rfl)
theorem dJ17_hugeLength_39 : decode cJ17_hugeLength 39 = .ok (.invokevirtual 94, 3) := dk_182 0 94 (dk_at dksJ17_hugeLength_1 15 rfl rfl)
theorem dJ17_hugeLength_42 : decode cJ17_hugeLength 42 = .ok (.invokevirtual 101, 3) := dk_182 0 101 (dk_at dksJ17_hugeLength_1 18 rfl rfl)
theorem dJ17_hugeLength_45 : decode cJ17_hugeLength 45 = .ok (.invokespecial 212, 3) := dk_183 0 212 (dk_at dksJ17_hugeLength_1 21 rfl rfl)
theorem dJ17_hugeLength_48 : decode cJ17_hugeLength 48 = .ok (.athrow, 1) := dk_191 (dk_at dksJ17_hugeLength_2 0 rfl rfl)
theorem dJ17_hugeLength_49 : decode cJ17_hugeLength 49 = .ok (.iload_n 2, 1) := dk_28 (dk_at dksJ17_hugeLength_2 1 rfl rfl)
theorem dJ17_hugeLength_50 : decode cJ17_hugeLength 50 = .ok (.ldc 200, 2) := dk_18 200 (dk_at dksJ17_hugeLength_2 2 rfl rfl)
theorem dJ17_hugeLength_52 : decode cJ17_hugeLength 52 = .ok (.if_icmp .gt 6, 3) := dk_163 0 6 (dk_at dksJ17_hugeLength_2 4 rfl rfl)
theorem dJ17_hugeLength_55 : decode cJ17_hugeLength 55 = .ok (.ldc 200, 2) := dk_18 200 (dk_at dksJ17_hugeLength_2 7 rfl rfl)
theorem dJ17_hugeLength_57 : decode cJ17_hugeLength 57 = .ok (.ireturn, 1) := dk_172 (dk_at dksJ17_hugeLength_2 9 rfl rfl)
theorem dJ17_hugeLength_58 : decode cJ17_hugeLength 58 = .ok (.iload_n 2, 1) := dk_28 (dk_at dksJ17_hugeLength_2 10 rfl rfl)
theorem dJ17_hugeLength_59 : decode cJ17_hugeLength 59 = .ok (.ireturn, 1) := dk_172 (dk_at dksJ17_hugeLength_2 11 rfl rfl)
abbrev cJ17_mismatch : ByteArray := prog_85_method_13_code
def yJ17_mismatch : MethodName := ⟨RJ17, "mismatch", "([B[BI)I"⟩
def dkwJ17_mismatch_3 : List UInt8 := [172]
abbrev dktJ17_mismatch_3 : List UInt8 := dkwJ17_mismatch_3 ++ []
def dkwJ17_mismatch_2 : List UInt8 := [62, 29, 28, 162, 0, 20, 42, 29, 51, 43, 29, 51, 159, 0, 5, 29, 172, 132, 3, 1, 167, 255, 237, 2]
abbrev dktJ17_mismatch_2 : List UInt8 := dkwJ17_mismatch_2 ++ dktJ17_mismatch_3
def dkwJ17_mismatch_1 : List UInt8 := [43, 178, 0, 126, 133, 28, 178, 0, 129, 184, 0, 122, 62, 29, 155, 0, 5, 29, 172, 28, 29, 2, 130, 100]
abbrev dktJ17_mismatch_1 : List UInt8 := dkwJ17_mismatch_1 ++ dktJ17_mismatch_2
def dkwJ17_mismatch_0 : List UInt8 := [3, 62, 28, 16, 7, 164, 0, 44, 42, 3, 51, 43, 3, 51, 159, 0, 5, 3, 172, 42, 178, 0, 126, 133]
abbrev dktJ17_mismatch_0 : List UInt8 := dkwJ17_mismatch_0 ++ dktJ17_mismatch_1
theorem dksJ17_mismatch_0 : cJ17_mismatch.data.toList.drop 0 = dktJ17_mismatch_0 := by decide +kernel
theorem dksJ17_mismatch_1 : cJ17_mismatch.data.toList.drop 24 = dktJ17_mismatch_1 := dk_seg dksJ17_mismatch_0 24 rfl rfl
theorem dksJ17_mismatch_2 : cJ17_mismatch.data.toList.drop 48 = dktJ17_mismatch_2 := dk_seg dksJ17_mismatch_1 24 rfl rfl
theorem dksJ17_mismatch_3 : cJ17_mismatch.data.toList.drop 72 = dktJ17_mismatch_3 := dk_seg dksJ17_mismatch_2 24 rfl rfl
theorem dJ17_mismatch_0 : decode cJ17_mismatch 0 = .ok (.iconst 0, 1) := dk_3 (dk_at dksJ17_mismatch_0 0 rfl rfl)
theorem dJ17_mismatch_1 : decode cJ17_mismatch 1 = .ok (.istore_n 3, 1) := dk_62 (dk_at dksJ17_mismatch_0 1 rfl rfl)
theorem dJ17_mismatch_2 : decode cJ17_mismatch 2 = .ok (.iload_n 2, 1) := dk_28 (dk_at dksJ17_mismatch_0 2 rfl rfl)
theorem dJ17_mismatch_3 : decode cJ17_mismatch 3 = .ok (.bipush 7, 2) := dk_16 7 (dk_at dksJ17_mismatch_0 3 rfl rfl)
theorem dJ17_mismatch_5 : decode cJ17_mismatch 5 = .ok (.if_icmp .le 44, 3) := dk_164 0 44 (dk_at dksJ17_mismatch_0 5 rfl rfl)
theorem dJ17_mismatch_8 : decode cJ17_mismatch 8 = .ok (.aload_n 0, 1) := dk_42 (dk_at dksJ17_mismatch_0 8 rfl rfl)
theorem dJ17_mismatch_9 : decode cJ17_mismatch 9 = .ok (.iconst 0, 1) := dk_3 (dk_at dksJ17_mismatch_0 9 rfl rfl)
theorem dJ17_mismatch_10 : decode cJ17_mismatch 10 = .ok (.baload, 1) := dk_51 (dk_at dksJ17_mismatch_0 10 rfl rfl)
theorem dJ17_mismatch_11 : decode cJ17_mismatch 11 = .ok (.aload_n 1, 1) := dk_43 (dk_at dksJ17_mismatch_0 11 rfl rfl)
theorem dJ17_mismatch_12 : decode cJ17_mismatch 12 = .ok (.iconst 0, 1) := dk_3 (dk_at dksJ17_mismatch_0 12 rfl rfl)
theorem dJ17_mismatch_13 : decode cJ17_mismatch 13 = .ok (.baload, 1) := dk_51 (dk_at dksJ17_mismatch_0 13 rfl rfl)
theorem dJ17_mismatch_14 : decode cJ17_mismatch 14 = .ok (.if_icmp .eq 5, 3) := dk_159 0 5 (dk_at dksJ17_mismatch_0 14 rfl rfl)
theorem dJ17_mismatch_17 : decode cJ17_mismatch 17 = .ok (.iconst 0, 1) := dk_3 (dk_at dksJ17_mismatch_0 17 rfl rfl)
theorem dJ17_mismatch_18 : decode cJ17_mismatch 18 = .ok (.ireturn, 1) := dk_172 (dk_at dksJ17_mismatch_0 18 rfl rfl)
theorem dJ17_mismatch_19 : decode cJ17_mismatch 19 = .ok (.aload_n 0, 1) := dk_42 (dk_at dksJ17_mismatch_0 19 rfl rfl)
theorem dJ17_mismatch_20 : decode cJ17_mismatch 20 = .ok (.getstatic 126, 3) := dk_178 0 126 (dk_at dksJ17_mismatch_0 20 rfl rfl)
theorem dJ17_mismatch_23 : decode cJ17_mismatch 23 = .ok (.i2l, 1) := dk_133 (dk_at dksJ17_mismatch_0 23 rfl rfl)
theorem dJ17_mismatch_24 : decode cJ17_mismatch 24 = .ok (.aload_n 1, 1) := dk_43 (dk_at dksJ17_mismatch_1 0 rfl rfl)
theorem dJ17_mismatch_25 : decode cJ17_mismatch 25 = .ok (.getstatic 126, 3) := dk_178 0 126 (dk_at dksJ17_mismatch_1 1 rfl rfl)
theorem dJ17_mismatch_28 : decode cJ17_mismatch 28 = .ok (.i2l, 1) := dk_133 (dk_at dksJ17_mismatch_1 4 rfl rfl)
theorem dJ17_mismatch_29 : decode cJ17_mismatch 29 = .ok (.iload_n 2, 1) := dk_28 (dk_at dksJ17_mismatch_1 5 rfl rfl)
theorem dJ17_mismatch_30 : decode cJ17_mismatch 30 = .ok (.getstatic 129, 3) := dk_178 0 129 (dk_at dksJ17_mismatch_1 6 rfl rfl)
theorem dJ17_mismatch_33 : decode cJ17_mismatch 33 = .ok (.invokestatic 122, 3) := dk_184 0 122 (dk_at dksJ17_mismatch_1 9 rfl rfl)
theorem dJ17_mismatch_36 : decode cJ17_mismatch 36 = .ok (.istore_n 3, 1) := dk_62 (dk_at dksJ17_mismatch_1 12 rfl rfl)
theorem dJ17_mismatch_37 : decode cJ17_mismatch 37 = .ok (.iload_n 3, 1) := dk_29 (dk_at dksJ17_mismatch_1 13 rfl rfl)
theorem dJ17_mismatch_38 : decode cJ17_mismatch 38 = .ok (.ifCond .lt 5, 3) := dk_155 0 5 (dk_at dksJ17_mismatch_1 14 rfl rfl)
theorem dJ17_mismatch_41 : decode cJ17_mismatch 41 = .ok (.iload_n 3, 1) := dk_29 (dk_at dksJ17_mismatch_1 17 rfl rfl)
theorem dJ17_mismatch_42 : decode cJ17_mismatch 42 = .ok (.ireturn, 1) := dk_172 (dk_at dksJ17_mismatch_1 18 rfl rfl)
theorem dJ17_mismatch_43 : decode cJ17_mismatch 43 = .ok (.iload_n 2, 1) := dk_28 (dk_at dksJ17_mismatch_1 19 rfl rfl)
theorem dJ17_mismatch_44 : decode cJ17_mismatch 44 = .ok (.iload_n 3, 1) := dk_29 (dk_at dksJ17_mismatch_1 20 rfl rfl)
theorem dJ17_mismatch_45 : decode cJ17_mismatch 45 = .ok (.iconst (-1), 1) := dk_2 (dk_at dksJ17_mismatch_1 21 rfl rfl)
theorem dJ17_mismatch_46 : decode cJ17_mismatch 46 = .ok (.ixor, 1) := dk_130 (dk_at dksJ17_mismatch_1 22 rfl rfl)
theorem dJ17_mismatch_47 : decode cJ17_mismatch 47 = .ok (.isub, 1) := dk_100 (dk_at dksJ17_mismatch_1 23 rfl rfl)
theorem dJ17_mismatch_48 : decode cJ17_mismatch 48 = .ok (.istore_n 3, 1) := dk_62 (dk_at dksJ17_mismatch_2 0 rfl rfl)
theorem dJ17_mismatch_49 : decode cJ17_mismatch 49 = .ok (.iload_n 3, 1) := dk_29 (dk_at dksJ17_mismatch_2 1 rfl rfl)
theorem dJ17_mismatch_50 : decode cJ17_mismatch 50 = .ok (.iload_n 2, 1) := dk_28 (dk_at dksJ17_mismatch_2 2 rfl rfl)
theorem dJ17_mismatch_51 : decode cJ17_mismatch 51 = .ok (.if_icmp .ge 20, 3) := dk_162 0 20 (dk_at dksJ17_mismatch_2 3 rfl rfl)
theorem dJ17_mismatch_54 : decode cJ17_mismatch 54 = .ok (.aload_n 0, 1) := dk_42 (dk_at dksJ17_mismatch_2 6 rfl rfl)
theorem dJ17_mismatch_55 : decode cJ17_mismatch 55 = .ok (.iload_n 3, 1) := dk_29 (dk_at dksJ17_mismatch_2 7 rfl rfl)
theorem dJ17_mismatch_56 : decode cJ17_mismatch 56 = .ok (.baload, 1) := dk_51 (dk_at dksJ17_mismatch_2 8 rfl rfl)
theorem dJ17_mismatch_57 : decode cJ17_mismatch 57 = .ok (.aload_n 1, 1) := dk_43 (dk_at dksJ17_mismatch_2 9 rfl rfl)
theorem dJ17_mismatch_58 : decode cJ17_mismatch 58 = .ok (.iload_n 3, 1) := dk_29 (dk_at dksJ17_mismatch_2 10 rfl rfl)
theorem dJ17_mismatch_59 : decode cJ17_mismatch 59 = .ok (.baload, 1) := dk_51 (dk_at dksJ17_mismatch_2 11 rfl rfl)
theorem dJ17_mismatch_60 : decode cJ17_mismatch 60 = .ok (.if_icmp .eq 5, 3) := dk_159 0 5 (dk_at dksJ17_mismatch_2 12 rfl rfl)
theorem dJ17_mismatch_63 : decode cJ17_mismatch 63 = .ok (.iload_n 3, 1) := dk_29 (dk_at dksJ17_mismatch_2 15 rfl rfl)
theorem dJ17_mismatch_64 : decode cJ17_mismatch 64 = .ok (.ireturn, 1) := dk_172 (dk_at dksJ17_mismatch_2 16 rfl rfl)
theorem dJ17_mismatch_65 : decode cJ17_mismatch 65 = .ok (.iinc 3 1, 3) := dk_132 3 1 (dk_at dksJ17_mismatch_2 17 rfl rfl)
theorem dJ17_mismatch_68 : decode cJ17_mismatch 68 = .ok (.goto (-19), 3) := dk_167 255 237 (dk_at dksJ17_mismatch_2 20 rfl rfl)
theorem dJ17_mismatch_71 : decode cJ17_mismatch 71 = .ok (.iconst (-1), 1) := dk_2 (dk_at dksJ17_mismatch_2 23 rfl rfl)
theorem dJ17_mismatch_72 : decode cJ17_mismatch 72 = .ok (.ireturn, 1) := dk_172 (dk_at dksJ17_mismatch_3 0 rfl rfl)
abbrev cJ17_vectorizedMismatch : ByteArray := prog_85_method_3_code
def yJ17_vectorizedMismatch : MethodName := ⟨RJ17, "vectorizedMismatch", "(Ljava/lang/Object;JLjava/lang/Object;JII)I"⟩
def dkwJ17_vectorizedMismatch_11 : List UInt8 := [54, 10, 21, 10, 2, 130, 172, 21, 10, 2, 130, 172]
abbrev dktJ17_vectorizedMismatch_11 : List UInt8 := dkwJ17_vectorizedMismatch_11 ++ []
def dkwJ17_vectorizedMismatch_10 : List UInt8 := [178, 0, 46, 21, 7, 96, 122, 54, 17, 21, 9, 21, 8, 120, 21, 17, 96, 172, 21, 10, 21, 11, 100]
abbrev dktJ17_vectorizedMismatch_10 : List UInt8 := dkwJ17_vectorizedMismatch_10 ++ dktJ17_vectorizedMismatch_11
def dkwJ17_vectorizedMismatch_9 : List UInt8 := [153, 0, 18, 21, 16, 184, 0, 58, 178, 0, 46, 21, 7, 96, 122, 167, 0, 15, 21, 16, 184, 0, 11]
abbrev dktJ17_vectorizedMismatch_9 : List UInt8 := dkwJ17_vectorizedMismatch_9 ++ dktJ17_vectorizedMismatch_10
def dkwJ17_vectorizedMismatch_8 : List UInt8 := [182, 0, 54, 54, 15, 21, 14, 21, 15, 159, 0, 54, 21, 14, 21, 15, 130, 54, 16, 178, 0, 36]
abbrev dktJ17_vectorizedMismatch_8 : List UInt8 := dkwJ17_vectorizedMismatch_8 ++ dktJ17_vectorizedMismatch_9
def dkwJ17_vectorizedMismatch_7 : List UInt8 := [55, 12, 178, 0, 26, 42, 31, 22, 12, 97, 182, 0, 54, 54, 14, 178, 0, 26, 45, 22, 4, 22, 12, 97]
abbrev dktJ17_vectorizedMismatch_7 : List UInt8 := dkwJ17_vectorizedMismatch_7 ++ dktJ17_vectorizedMismatch_8
def dkwJ17_vectorizedMismatch_6 : List UInt8 := [4, 178, 0, 51, 21, 7, 100, 120, 54, 11, 21, 10, 21, 11, 161, 0, 104, 21, 9, 133, 178, 0, 20, 121]
abbrev dktJ17_vectorizedMismatch_6 : List UInt8 := dkwJ17_vectorizedMismatch_6 ++ dktJ17_vectorizedMismatch_7
def dkwJ17_vectorizedMismatch_5 : List UInt8 := [132, 9, 1, 167, 255, 148, 21, 6, 21, 9, 21, 8, 120, 100, 54, 10, 21, 7, 178, 0, 51, 162, 0, 126]
abbrev dktJ17_vectorizedMismatch_5 : List UInt8 := dkwJ17_vectorizedMismatch_5 ++ dktJ17_vectorizedMismatch_6
def dkwJ17_vectorizedMismatch_4 : List UInt8 := [22, 16, 184, 0, 49, 178, 0, 46, 21, 7, 96, 122, 54, 18, 21, 9, 21, 8, 120, 21, 18, 96, 172]
abbrev dktJ17_vectorizedMismatch_4 : List UInt8 := dkwJ17_vectorizedMismatch_4 ++ dktJ17_vectorizedMismatch_5
def dkwJ17_vectorizedMismatch_3 : List UInt8 := [55, 16, 178, 0, 36, 153, 0, 18, 22, 16, 184, 0, 40, 178, 0, 46, 21, 7, 96, 122, 167, 0, 15]
abbrev dktJ17_vectorizedMismatch_3 : List UInt8 := dkwJ17_vectorizedMismatch_3 ++ dktJ17_vectorizedMismatch_4
def dkwJ17_vectorizedMismatch_2 : List UInt8 := [22, 4, 22, 10, 97, 182, 0, 30, 55, 14, 22, 12, 22, 14, 148, 153, 0, 54, 22, 12, 22, 14, 131]
abbrev dktJ17_vectorizedMismatch_2 : List UInt8 := dkwJ17_vectorizedMismatch_2 ++ dktJ17_vectorizedMismatch_3
def dkwJ17_vectorizedMismatch_1 : List UInt8 := [178, 0, 20, 121, 55, 10, 178, 0, 26, 42, 31, 22, 10, 97, 182, 0, 30, 55, 12, 178, 0, 26, 45]
abbrev dktJ17_vectorizedMismatch_1 : List UInt8 := dkwJ17_vectorizedMismatch_1 ++ dktJ17_vectorizedMismatch_2
def dkwJ17_vectorizedMismatch_0 : List UInt8 := [178, 0, 20, 21, 7, 100, 54, 8, 3, 54, 9, 21, 9, 21, 6, 21, 8, 122, 162, 0, 104, 21, 9, 133]
abbrev dktJ17_vectorizedMismatch_0 : List UInt8 := dkwJ17_vectorizedMismatch_0 ++ dktJ17_vectorizedMismatch_1
theorem dksJ17_vectorizedMismatch_0 : cJ17_vectorizedMismatch.data.toList.drop 0 = dktJ17_vectorizedMismatch_0 := by decide +kernel
theorem dksJ17_vectorizedMismatch_1 : cJ17_vectorizedMismatch.data.toList.drop 24 = dktJ17_vectorizedMismatch_1 := dk_seg dksJ17_vectorizedMismatch_0 24 rfl rfl
theorem dksJ17_vectorizedMismatch_2 : cJ17_vectorizedMismatch.data.toList.drop 47 = dktJ17_vectorizedMismatch_2 := dk_seg dksJ17_vectorizedMismatch_1 23 rfl rfl
theorem dksJ17_vectorizedMismatch_3 : cJ17_vectorizedMismatch.data.toList.drop 70 = dktJ17_vectorizedMismatch_3 := dk_seg dksJ17_vectorizedMismatch_2 23 rfl rfl
theorem dksJ17_vectorizedMismatch_4 : cJ17_vectorizedMismatch.data.toList.drop 93 = dktJ17_vectorizedMismatch_4 := dk_seg dksJ17_vectorizedMismatch_3 23 rfl rfl
theorem dksJ17_vectorizedMismatch_5 : cJ17_vectorizedMismatch.data.toList.drop 116 = dktJ17_vectorizedMismatch_5 := dk_seg dksJ17_vectorizedMismatch_4 23 rfl rfl
theorem dksJ17_vectorizedMismatch_6 : cJ17_vectorizedMismatch.data.toList.drop 140 = dktJ17_vectorizedMismatch_6 := dk_seg dksJ17_vectorizedMismatch_5 24 rfl rfl
theorem dksJ17_vectorizedMismatch_7 : cJ17_vectorizedMismatch.data.toList.drop 164 = dktJ17_vectorizedMismatch_7 := dk_seg dksJ17_vectorizedMismatch_6 24 rfl rfl
theorem dksJ17_vectorizedMismatch_8 : cJ17_vectorizedMismatch.data.toList.drop 188 = dktJ17_vectorizedMismatch_8 := dk_seg dksJ17_vectorizedMismatch_7 24 rfl rfl
theorem dksJ17_vectorizedMismatch_9 : cJ17_vectorizedMismatch.data.toList.drop 210 = dktJ17_vectorizedMismatch_9 := dk_seg dksJ17_vectorizedMismatch_8 22 rfl rfl
theorem dksJ17_vectorizedMismatch_10 : cJ17_vectorizedMismatch.data.toList.drop 233 = dktJ17_vectorizedMismatch_10 := dk_seg dksJ17_vectorizedMismatch_9 23 rfl rfl
theorem dksJ17_vectorizedMismatch_11 : cJ17_vectorizedMismatch.data.toList.drop 256 = dktJ17_vectorizedMismatch_11 := dk_seg dksJ17_vectorizedMismatch_10 23 rfl rfl
theorem dJ17_vectorizedMismatch_0 : decode cJ17_vectorizedMismatch 0 = .ok (.getstatic 20, 3) := dk_178 0 20 (dk_at dksJ17_vectorizedMismatch_0 0 rfl rfl)
theorem dJ17_vectorizedMismatch_3 : decode cJ17_vectorizedMismatch 3 = .ok (.iload 7, 2) := dk_21 7 (dk_at dksJ17_vectorizedMismatch_0 3 rfl rfl)
theorem dJ17_vectorizedMismatch_5 : decode cJ17_vectorizedMismatch 5 = .ok (.isub, 1) := dk_100 (dk_at dksJ17_vectorizedMismatch_0 5 rfl rfl)
theorem dJ17_vectorizedMismatch_6 : decode cJ17_vectorizedMismatch 6 = .ok (.istore 8, 2) := dk_54 8 (dk_at dksJ17_vectorizedMismatch_0 6 rfl rfl)
theorem dJ17_vectorizedMismatch_8 : decode cJ17_vectorizedMismatch 8 = .ok (.iconst 0, 1) := dk_3 (dk_at dksJ17_vectorizedMismatch_0 8 rfl rfl)
theorem dJ17_vectorizedMismatch_9 : decode cJ17_vectorizedMismatch 9 = .ok (.istore 9, 2) := dk_54 9 (dk_at dksJ17_vectorizedMismatch_0 9 rfl rfl)
theorem dJ17_vectorizedMismatch_11 : decode cJ17_vectorizedMismatch 11 = .ok (.iload 9, 2) := dk_21 9 (dk_at dksJ17_vectorizedMismatch_0 11 rfl rfl)
theorem dJ17_vectorizedMismatch_13 : decode cJ17_vectorizedMismatch 13 = .ok (.iload 6, 2) := dk_21 6 (dk_at dksJ17_vectorizedMismatch_0 13 rfl rfl)
theorem dJ17_vectorizedMismatch_15 : decode cJ17_vectorizedMismatch 15 = .ok (.iload 8, 2) := dk_21 8 (dk_at dksJ17_vectorizedMismatch_0 15 rfl rfl)
theorem dJ17_vectorizedMismatch_17 : decode cJ17_vectorizedMismatch 17 = .ok (.ishr, 1) := dk_122 (dk_at dksJ17_vectorizedMismatch_0 17 rfl rfl)
theorem dJ17_vectorizedMismatch_18 : decode cJ17_vectorizedMismatch 18 = .ok (.if_icmp .ge 104, 3) := dk_162 0 104 (dk_at dksJ17_vectorizedMismatch_0 18 rfl rfl)
theorem dJ17_vectorizedMismatch_21 : decode cJ17_vectorizedMismatch 21 = .ok (.iload 9, 2) := dk_21 9 (dk_at dksJ17_vectorizedMismatch_0 21 rfl rfl)
theorem dJ17_vectorizedMismatch_23 : decode cJ17_vectorizedMismatch 23 = .ok (.i2l, 1) := dk_133 (dk_at dksJ17_vectorizedMismatch_0 23 rfl rfl)
theorem dJ17_vectorizedMismatch_24 : decode cJ17_vectorizedMismatch 24 = .ok (.getstatic 20, 3) := dk_178 0 20 (dk_at dksJ17_vectorizedMismatch_1 0 rfl rfl)
theorem dJ17_vectorizedMismatch_27 : decode cJ17_vectorizedMismatch 27 = .ok (.lshl, 1) := dk_121 (dk_at dksJ17_vectorizedMismatch_1 3 rfl rfl)
theorem dJ17_vectorizedMismatch_28 : decode cJ17_vectorizedMismatch 28 = .ok (.lstore 10, 2) := dk_55 10 (dk_at dksJ17_vectorizedMismatch_1 4 rfl rfl)
theorem dJ17_vectorizedMismatch_30 : decode cJ17_vectorizedMismatch 30 = .ok (.getstatic 26, 3) := dk_178 0 26 (dk_at dksJ17_vectorizedMismatch_1 6 rfl rfl)
theorem dJ17_vectorizedMismatch_33 : decode cJ17_vectorizedMismatch 33 = .ok (.aload_n 0, 1) := dk_42 (dk_at dksJ17_vectorizedMismatch_1 9 rfl rfl)
theorem dJ17_vectorizedMismatch_34 : decode cJ17_vectorizedMismatch 34 = .ok (.lload_n 1, 1) := dk_31 (dk_at dksJ17_vectorizedMismatch_1 10 rfl rfl)
theorem dJ17_vectorizedMismatch_35 : decode cJ17_vectorizedMismatch 35 = .ok (.lload 10, 2) := dk_22 10 (dk_at dksJ17_vectorizedMismatch_1 11 rfl rfl)
theorem dJ17_vectorizedMismatch_37 : decode cJ17_vectorizedMismatch 37 = .ok (.ladd, 1) := dk_97 (dk_at dksJ17_vectorizedMismatch_1 13 rfl rfl)
theorem dJ17_vectorizedMismatch_38 : decode cJ17_vectorizedMismatch 38 = .ok (.invokevirtual 30, 3) := dk_182 0 30 (dk_at dksJ17_vectorizedMismatch_1 14 rfl rfl)
theorem dJ17_vectorizedMismatch_41 : decode cJ17_vectorizedMismatch 41 = .ok (.lstore 12, 2) := dk_55 12 (dk_at dksJ17_vectorizedMismatch_1 17 rfl rfl)
theorem dJ17_vectorizedMismatch_43 : decode cJ17_vectorizedMismatch 43 = .ok (.getstatic 26, 3) := dk_178 0 26 (dk_at dksJ17_vectorizedMismatch_1 19 rfl rfl)
theorem dJ17_vectorizedMismatch_46 : decode cJ17_vectorizedMismatch 46 = .ok (.aload_n 3, 1) := dk_45 (dk_at dksJ17_vectorizedMismatch_1 22 rfl rfl)
theorem dJ17_vectorizedMismatch_47 : decode cJ17_vectorizedMismatch 47 = .ok (.lload 4, 2) := dk_22 4 (dk_at dksJ17_vectorizedMismatch_2 0 rfl rfl)
theorem dJ17_vectorizedMismatch_49 : decode cJ17_vectorizedMismatch 49 = .ok (.lload 10, 2) := dk_22 10 (dk_at dksJ17_vectorizedMismatch_2 2 rfl rfl)
theorem dJ17_vectorizedMismatch_51 : decode cJ17_vectorizedMismatch 51 = .ok (.ladd, 1) := dk_97 (dk_at dksJ17_vectorizedMismatch_2 4 rfl rfl)
theorem dJ17_vectorizedMismatch_52 : decode cJ17_vectorizedMismatch 52 = .ok (.invokevirtual 30, 3) := dk_182 0 30 (dk_at dksJ17_vectorizedMismatch_2 5 rfl rfl)
theorem dJ17_vectorizedMismatch_55 : decode cJ17_vectorizedMismatch 55 = .ok (.lstore 14, 2) := dk_55 14 (dk_at dksJ17_vectorizedMismatch_2 8 rfl rfl)
theorem dJ17_vectorizedMismatch_57 : decode cJ17_vectorizedMismatch 57 = .ok (.lload 12, 2) := dk_22 12 (dk_at dksJ17_vectorizedMismatch_2 10 rfl rfl)
theorem dJ17_vectorizedMismatch_59 : decode cJ17_vectorizedMismatch 59 = .ok (.lload 14, 2) := dk_22 14 (dk_at dksJ17_vectorizedMismatch_2 12 rfl rfl)
theorem dJ17_vectorizedMismatch_61 : decode cJ17_vectorizedMismatch 61 = .ok (.lcmp, 1) := dk_148 (dk_at dksJ17_vectorizedMismatch_2 14 rfl rfl)
theorem dJ17_vectorizedMismatch_62 : decode cJ17_vectorizedMismatch 62 = .ok (.ifCond .eq 54, 3) := dk_153 0 54 (dk_at dksJ17_vectorizedMismatch_2 15 rfl rfl)
theorem dJ17_vectorizedMismatch_65 : decode cJ17_vectorizedMismatch 65 = .ok (.lload 12, 2) := dk_22 12 (dk_at dksJ17_vectorizedMismatch_2 18 rfl rfl)
theorem dJ17_vectorizedMismatch_67 : decode cJ17_vectorizedMismatch 67 = .ok (.lload 14, 2) := dk_22 14 (dk_at dksJ17_vectorizedMismatch_2 20 rfl rfl)
theorem dJ17_vectorizedMismatch_69 : decode cJ17_vectorizedMismatch 69 = .ok (.lxor, 1) := dk_131 (dk_at dksJ17_vectorizedMismatch_2 22 rfl rfl)
theorem dJ17_vectorizedMismatch_70 : decode cJ17_vectorizedMismatch 70 = .ok (.lstore 16, 2) := dk_55 16 (dk_at dksJ17_vectorizedMismatch_3 0 rfl rfl)
theorem dJ17_vectorizedMismatch_72 : decode cJ17_vectorizedMismatch 72 = .ok (.getstatic 36, 3) := dk_178 0 36 (dk_at dksJ17_vectorizedMismatch_3 2 rfl rfl)
theorem dJ17_vectorizedMismatch_75 : decode cJ17_vectorizedMismatch 75 = .ok (.ifCond .eq 18, 3) := dk_153 0 18 (dk_at dksJ17_vectorizedMismatch_3 5 rfl rfl)
theorem dJ17_vectorizedMismatch_78 : decode cJ17_vectorizedMismatch 78 = .ok (.lload 16, 2) := dk_22 16 (dk_at dksJ17_vectorizedMismatch_3 8 rfl rfl)
theorem dJ17_vectorizedMismatch_80 : decode cJ17_vectorizedMismatch 80 = .ok (.invokestatic 40, 3) := dk_184 0 40 (dk_at dksJ17_vectorizedMismatch_3 10 rfl rfl)
theorem dJ17_vectorizedMismatch_83 : decode cJ17_vectorizedMismatch 83 = .ok (.getstatic 46, 3) := dk_178 0 46 (dk_at dksJ17_vectorizedMismatch_3 13 rfl rfl)
theorem dJ17_vectorizedMismatch_86 : decode cJ17_vectorizedMismatch 86 = .ok (.iload 7, 2) := dk_21 7 (dk_at dksJ17_vectorizedMismatch_3 16 rfl rfl)
theorem dJ17_vectorizedMismatch_88 : decode cJ17_vectorizedMismatch 88 = .ok (.iadd, 1) := dk_96 (dk_at dksJ17_vectorizedMismatch_3 18 rfl rfl)
theorem dJ17_vectorizedMismatch_89 : decode cJ17_vectorizedMismatch 89 = .ok (.ishr, 1) := dk_122 (dk_at dksJ17_vectorizedMismatch_3 19 rfl rfl)
theorem dJ17_vectorizedMismatch_90 : decode cJ17_vectorizedMismatch 90 = .ok (.goto 15, 3) := dk_167 0 15 (dk_at dksJ17_vectorizedMismatch_3 20 rfl rfl)
theorem dJ17_vectorizedMismatch_93 : decode cJ17_vectorizedMismatch 93 = .ok (.lload 16, 2) := dk_22 16 (dk_at dksJ17_vectorizedMismatch_4 0 rfl rfl)
theorem dJ17_vectorizedMismatch_95 : decode cJ17_vectorizedMismatch 95 = .ok (.invokestatic 49, 3) := dk_184 0 49 (dk_at dksJ17_vectorizedMismatch_4 2 rfl rfl)
theorem dJ17_vectorizedMismatch_98 : decode cJ17_vectorizedMismatch 98 = .ok (.getstatic 46, 3) := dk_178 0 46 (dk_at dksJ17_vectorizedMismatch_4 5 rfl rfl)
theorem dJ17_vectorizedMismatch_101 : decode cJ17_vectorizedMismatch 101 = .ok (.iload 7, 2) := dk_21 7 (dk_at dksJ17_vectorizedMismatch_4 8 rfl rfl)
theorem dJ17_vectorizedMismatch_103 : decode cJ17_vectorizedMismatch 103 = .ok (.iadd, 1) := dk_96 (dk_at dksJ17_vectorizedMismatch_4 10 rfl rfl)
theorem dJ17_vectorizedMismatch_104 : decode cJ17_vectorizedMismatch 104 = .ok (.ishr, 1) := dk_122 (dk_at dksJ17_vectorizedMismatch_4 11 rfl rfl)
theorem dJ17_vectorizedMismatch_105 : decode cJ17_vectorizedMismatch 105 = .ok (.istore 18, 2) := dk_54 18 (dk_at dksJ17_vectorizedMismatch_4 12 rfl rfl)
theorem dJ17_vectorizedMismatch_107 : decode cJ17_vectorizedMismatch 107 = .ok (.iload 9, 2) := dk_21 9 (dk_at dksJ17_vectorizedMismatch_4 14 rfl rfl)
theorem dJ17_vectorizedMismatch_109 : decode cJ17_vectorizedMismatch 109 = .ok (.iload 8, 2) := dk_21 8 (dk_at dksJ17_vectorizedMismatch_4 16 rfl rfl)
theorem dJ17_vectorizedMismatch_111 : decode cJ17_vectorizedMismatch 111 = .ok (.ishl, 1) := dk_120 (dk_at dksJ17_vectorizedMismatch_4 18 rfl rfl)
theorem dJ17_vectorizedMismatch_112 : decode cJ17_vectorizedMismatch 112 = .ok (.iload 18, 2) := dk_21 18 (dk_at dksJ17_vectorizedMismatch_4 19 rfl rfl)
theorem dJ17_vectorizedMismatch_114 : decode cJ17_vectorizedMismatch 114 = .ok (.iadd, 1) := dk_96 (dk_at dksJ17_vectorizedMismatch_4 21 rfl rfl)
theorem dJ17_vectorizedMismatch_115 : decode cJ17_vectorizedMismatch 115 = .ok (.ireturn, 1) := dk_172 (dk_at dksJ17_vectorizedMismatch_4 22 rfl rfl)
theorem dJ17_vectorizedMismatch_116 : decode cJ17_vectorizedMismatch 116 = .ok (.iinc 9 1, 3) := dk_132 9 1 (dk_at dksJ17_vectorizedMismatch_5 0 rfl rfl)
theorem dJ17_vectorizedMismatch_119 : decode cJ17_vectorizedMismatch 119 = .ok (.goto (-108), 3) := dk_167 255 148 (dk_at dksJ17_vectorizedMismatch_5 3 rfl rfl)
theorem dJ17_vectorizedMismatch_122 : decode cJ17_vectorizedMismatch 122 = .ok (.iload 6, 2) := dk_21 6 (dk_at dksJ17_vectorizedMismatch_5 6 rfl rfl)
theorem dJ17_vectorizedMismatch_124 : decode cJ17_vectorizedMismatch 124 = .ok (.iload 9, 2) := dk_21 9 (dk_at dksJ17_vectorizedMismatch_5 8 rfl rfl)
theorem dJ17_vectorizedMismatch_126 : decode cJ17_vectorizedMismatch 126 = .ok (.iload 8, 2) := dk_21 8 (dk_at dksJ17_vectorizedMismatch_5 10 rfl rfl)
theorem dJ17_vectorizedMismatch_128 : decode cJ17_vectorizedMismatch 128 = .ok (.ishl, 1) := dk_120 (dk_at dksJ17_vectorizedMismatch_5 12 rfl rfl)
theorem dJ17_vectorizedMismatch_129 : decode cJ17_vectorizedMismatch 129 = .ok (.isub, 1) := dk_100 (dk_at dksJ17_vectorizedMismatch_5 13 rfl rfl)
theorem dJ17_vectorizedMismatch_130 : decode cJ17_vectorizedMismatch 130 = .ok (.istore 10, 2) := dk_54 10 (dk_at dksJ17_vectorizedMismatch_5 14 rfl rfl)
theorem dJ17_vectorizedMismatch_132 : decode cJ17_vectorizedMismatch 132 = .ok (.iload 7, 2) := dk_21 7 (dk_at dksJ17_vectorizedMismatch_5 16 rfl rfl)
theorem dJ17_vectorizedMismatch_134 : decode cJ17_vectorizedMismatch 134 = .ok (.getstatic 51, 3) := dk_178 0 51 (dk_at dksJ17_vectorizedMismatch_5 18 rfl rfl)
theorem dJ17_vectorizedMismatch_137 : decode cJ17_vectorizedMismatch 137 = .ok (.if_icmp .ge 126, 3) := dk_162 0 126 (dk_at dksJ17_vectorizedMismatch_5 21 rfl rfl)
theorem dJ17_vectorizedMismatch_140 : decode cJ17_vectorizedMismatch 140 = .ok (.iconst 1, 1) := dk_4 (dk_at dksJ17_vectorizedMismatch_6 0 rfl rfl)
theorem dJ17_vectorizedMismatch_141 : decode cJ17_vectorizedMismatch 141 = .ok (.getstatic 51, 3) := dk_178 0 51 (dk_at dksJ17_vectorizedMismatch_6 1 rfl rfl)
theorem dJ17_vectorizedMismatch_144 : decode cJ17_vectorizedMismatch 144 = .ok (.iload 7, 2) := dk_21 7 (dk_at dksJ17_vectorizedMismatch_6 4 rfl rfl)
theorem dJ17_vectorizedMismatch_146 : decode cJ17_vectorizedMismatch 146 = .ok (.isub, 1) := dk_100 (dk_at dksJ17_vectorizedMismatch_6 6 rfl rfl)
theorem dJ17_vectorizedMismatch_147 : decode cJ17_vectorizedMismatch 147 = .ok (.ishl, 1) := dk_120 (dk_at dksJ17_vectorizedMismatch_6 7 rfl rfl)
theorem dJ17_vectorizedMismatch_148 : decode cJ17_vectorizedMismatch 148 = .ok (.istore 11, 2) := dk_54 11 (dk_at dksJ17_vectorizedMismatch_6 8 rfl rfl)
theorem dJ17_vectorizedMismatch_150 : decode cJ17_vectorizedMismatch 150 = .ok (.iload 10, 2) := dk_21 10 (dk_at dksJ17_vectorizedMismatch_6 10 rfl rfl)
theorem dJ17_vectorizedMismatch_152 : decode cJ17_vectorizedMismatch 152 = .ok (.iload 11, 2) := dk_21 11 (dk_at dksJ17_vectorizedMismatch_6 12 rfl rfl)
theorem dJ17_vectorizedMismatch_154 : decode cJ17_vectorizedMismatch 154 = .ok (.if_icmp .lt 104, 3) := dk_161 0 104 (dk_at dksJ17_vectorizedMismatch_6 14 rfl rfl)
theorem dJ17_vectorizedMismatch_157 : decode cJ17_vectorizedMismatch 157 = .ok (.iload 9, 2) := dk_21 9 (dk_at dksJ17_vectorizedMismatch_6 17 rfl rfl)
theorem dJ17_vectorizedMismatch_159 : decode cJ17_vectorizedMismatch 159 = .ok (.i2l, 1) := dk_133 (dk_at dksJ17_vectorizedMismatch_6 19 rfl rfl)
theorem dJ17_vectorizedMismatch_160 : decode cJ17_vectorizedMismatch 160 = .ok (.getstatic 20, 3) := dk_178 0 20 (dk_at dksJ17_vectorizedMismatch_6 20 rfl rfl)
theorem dJ17_vectorizedMismatch_163 : decode cJ17_vectorizedMismatch 163 = .ok (.lshl, 1) := dk_121 (dk_at dksJ17_vectorizedMismatch_6 23 rfl rfl)
theorem dJ17_vectorizedMismatch_164 : decode cJ17_vectorizedMismatch 164 = .ok (.lstore 12, 2) := dk_55 12 (dk_at dksJ17_vectorizedMismatch_7 0 rfl rfl)
theorem dJ17_vectorizedMismatch_166 : decode cJ17_vectorizedMismatch 166 = .ok (.getstatic 26, 3) := dk_178 0 26 (dk_at dksJ17_vectorizedMismatch_7 2 rfl rfl)
theorem dJ17_vectorizedMismatch_169 : decode cJ17_vectorizedMismatch 169 = .ok (.aload_n 0, 1) := dk_42 (dk_at dksJ17_vectorizedMismatch_7 5 rfl rfl)
theorem dJ17_vectorizedMismatch_170 : decode cJ17_vectorizedMismatch 170 = .ok (.lload_n 1, 1) := dk_31 (dk_at dksJ17_vectorizedMismatch_7 6 rfl rfl)
theorem dJ17_vectorizedMismatch_171 : decode cJ17_vectorizedMismatch 171 = .ok (.lload 12, 2) := dk_22 12 (dk_at dksJ17_vectorizedMismatch_7 7 rfl rfl)
theorem dJ17_vectorizedMismatch_173 : decode cJ17_vectorizedMismatch 173 = .ok (.ladd, 1) := dk_97 (dk_at dksJ17_vectorizedMismatch_7 9 rfl rfl)
theorem dJ17_vectorizedMismatch_174 : decode cJ17_vectorizedMismatch 174 = .ok (.invokevirtual 54, 3) := dk_182 0 54 (dk_at dksJ17_vectorizedMismatch_7 10 rfl rfl)
theorem dJ17_vectorizedMismatch_177 : decode cJ17_vectorizedMismatch 177 = .ok (.istore 14, 2) := dk_54 14 (dk_at dksJ17_vectorizedMismatch_7 13 rfl rfl)
theorem dJ17_vectorizedMismatch_179 : decode cJ17_vectorizedMismatch 179 = .ok (.getstatic 26, 3) := dk_178 0 26 (dk_at dksJ17_vectorizedMismatch_7 15 rfl rfl)
theorem dJ17_vectorizedMismatch_182 : decode cJ17_vectorizedMismatch 182 = .ok (.aload_n 3, 1) := dk_45 (dk_at dksJ17_vectorizedMismatch_7 18 rfl rfl)
theorem dJ17_vectorizedMismatch_183 : decode cJ17_vectorizedMismatch 183 = .ok (.lload 4, 2) := dk_22 4 (dk_at dksJ17_vectorizedMismatch_7 19 rfl rfl)
theorem dJ17_vectorizedMismatch_185 : decode cJ17_vectorizedMismatch 185 = .ok (.lload 12, 2) := dk_22 12 (dk_at dksJ17_vectorizedMismatch_7 21 rfl rfl)
theorem dJ17_vectorizedMismatch_187 : decode cJ17_vectorizedMismatch 187 = .ok (.ladd, 1) := dk_97 (dk_at dksJ17_vectorizedMismatch_7 23 rfl rfl)
theorem dJ17_vectorizedMismatch_188 : decode cJ17_vectorizedMismatch 188 = .ok (.invokevirtual 54, 3) := dk_182 0 54 (dk_at dksJ17_vectorizedMismatch_8 0 rfl rfl)
theorem dJ17_vectorizedMismatch_191 : decode cJ17_vectorizedMismatch 191 = .ok (.istore 15, 2) := dk_54 15 (dk_at dksJ17_vectorizedMismatch_8 3 rfl rfl)
theorem dJ17_vectorizedMismatch_193 : decode cJ17_vectorizedMismatch 193 = .ok (.iload 14, 2) := dk_21 14 (dk_at dksJ17_vectorizedMismatch_8 5 rfl rfl)
theorem dJ17_vectorizedMismatch_195 : decode cJ17_vectorizedMismatch 195 = .ok (.iload 15, 2) := dk_21 15 (dk_at dksJ17_vectorizedMismatch_8 7 rfl rfl)
theorem dJ17_vectorizedMismatch_197 : decode cJ17_vectorizedMismatch 197 = .ok (.if_icmp .eq 54, 3) := dk_159 0 54 (dk_at dksJ17_vectorizedMismatch_8 9 rfl rfl)
theorem dJ17_vectorizedMismatch_200 : decode cJ17_vectorizedMismatch 200 = .ok (.iload 14, 2) := dk_21 14 (dk_at dksJ17_vectorizedMismatch_8 12 rfl rfl)
theorem dJ17_vectorizedMismatch_202 : decode cJ17_vectorizedMismatch 202 = .ok (.iload 15, 2) := dk_21 15 (dk_at dksJ17_vectorizedMismatch_8 14 rfl rfl)
theorem dJ17_vectorizedMismatch_204 : decode cJ17_vectorizedMismatch 204 = .ok (.ixor, 1) := dk_130 (dk_at dksJ17_vectorizedMismatch_8 16 rfl rfl)
theorem dJ17_vectorizedMismatch_205 : decode cJ17_vectorizedMismatch 205 = .ok (.istore 16, 2) := dk_54 16 (dk_at dksJ17_vectorizedMismatch_8 17 rfl rfl)
theorem dJ17_vectorizedMismatch_207 : decode cJ17_vectorizedMismatch 207 = .ok (.getstatic 36, 3) := dk_178 0 36 (dk_at dksJ17_vectorizedMismatch_8 19 rfl rfl)
theorem dJ17_vectorizedMismatch_210 : decode cJ17_vectorizedMismatch 210 = .ok (.ifCond .eq 18, 3) := dk_153 0 18 (dk_at dksJ17_vectorizedMismatch_9 0 rfl rfl)
theorem dJ17_vectorizedMismatch_213 : decode cJ17_vectorizedMismatch 213 = .ok (.iload 16, 2) := dk_21 16 (dk_at dksJ17_vectorizedMismatch_9 3 rfl rfl)
theorem dJ17_vectorizedMismatch_215 : decode cJ17_vectorizedMismatch 215 = .ok (.invokestatic 58, 3) := dk_184 0 58 (dk_at dksJ17_vectorizedMismatch_9 5 rfl rfl)
theorem dJ17_vectorizedMismatch_218 : decode cJ17_vectorizedMismatch 218 = .ok (.getstatic 46, 3) := dk_178 0 46 (dk_at dksJ17_vectorizedMismatch_9 8 rfl rfl)
theorem dJ17_vectorizedMismatch_221 : decode cJ17_vectorizedMismatch 221 = .ok (.iload 7, 2) := dk_21 7 (dk_at dksJ17_vectorizedMismatch_9 11 rfl rfl)
theorem dJ17_vectorizedMismatch_223 : decode cJ17_vectorizedMismatch 223 = .ok (.iadd, 1) := dk_96 (dk_at dksJ17_vectorizedMismatch_9 13 rfl rfl)
theorem dJ17_vectorizedMismatch_224 : decode cJ17_vectorizedMismatch 224 = .ok (.ishr, 1) := dk_122 (dk_at dksJ17_vectorizedMismatch_9 14 rfl rfl)
theorem dJ17_vectorizedMismatch_225 : decode cJ17_vectorizedMismatch 225 = .ok (.goto 15, 3) := dk_167 0 15 (dk_at dksJ17_vectorizedMismatch_9 15 rfl rfl)
theorem dJ17_vectorizedMismatch_228 : decode cJ17_vectorizedMismatch 228 = .ok (.iload 16, 2) := dk_21 16 (dk_at dksJ17_vectorizedMismatch_9 18 rfl rfl)
theorem dJ17_vectorizedMismatch_230 : decode cJ17_vectorizedMismatch 230 = .ok (.invokestatic 11, 3) := dk_184 0 11 (dk_at dksJ17_vectorizedMismatch_9 20 rfl rfl)
theorem dJ17_vectorizedMismatch_233 : decode cJ17_vectorizedMismatch 233 = .ok (.getstatic 46, 3) := dk_178 0 46 (dk_at dksJ17_vectorizedMismatch_10 0 rfl rfl)
theorem dJ17_vectorizedMismatch_236 : decode cJ17_vectorizedMismatch 236 = .ok (.iload 7, 2) := dk_21 7 (dk_at dksJ17_vectorizedMismatch_10 3 rfl rfl)
theorem dJ17_vectorizedMismatch_238 : decode cJ17_vectorizedMismatch 238 = .ok (.iadd, 1) := dk_96 (dk_at dksJ17_vectorizedMismatch_10 5 rfl rfl)
theorem dJ17_vectorizedMismatch_239 : decode cJ17_vectorizedMismatch 239 = .ok (.ishr, 1) := dk_122 (dk_at dksJ17_vectorizedMismatch_10 6 rfl rfl)
theorem dJ17_vectorizedMismatch_240 : decode cJ17_vectorizedMismatch 240 = .ok (.istore 17, 2) := dk_54 17 (dk_at dksJ17_vectorizedMismatch_10 7 rfl rfl)
theorem dJ17_vectorizedMismatch_242 : decode cJ17_vectorizedMismatch 242 = .ok (.iload 9, 2) := dk_21 9 (dk_at dksJ17_vectorizedMismatch_10 9 rfl rfl)
theorem dJ17_vectorizedMismatch_244 : decode cJ17_vectorizedMismatch 244 = .ok (.iload 8, 2) := dk_21 8 (dk_at dksJ17_vectorizedMismatch_10 11 rfl rfl)
theorem dJ17_vectorizedMismatch_246 : decode cJ17_vectorizedMismatch 246 = .ok (.ishl, 1) := dk_120 (dk_at dksJ17_vectorizedMismatch_10 13 rfl rfl)
theorem dJ17_vectorizedMismatch_247 : decode cJ17_vectorizedMismatch 247 = .ok (.iload 17, 2) := dk_21 17 (dk_at dksJ17_vectorizedMismatch_10 14 rfl rfl)
theorem dJ17_vectorizedMismatch_249 : decode cJ17_vectorizedMismatch 249 = .ok (.iadd, 1) := dk_96 (dk_at dksJ17_vectorizedMismatch_10 16 rfl rfl)
theorem dJ17_vectorizedMismatch_250 : decode cJ17_vectorizedMismatch 250 = .ok (.ireturn, 1) := dk_172 (dk_at dksJ17_vectorizedMismatch_10 17 rfl rfl)
theorem dJ17_vectorizedMismatch_251 : decode cJ17_vectorizedMismatch 251 = .ok (.iload 10, 2) := dk_21 10 (dk_at dksJ17_vectorizedMismatch_10 18 rfl rfl)
theorem dJ17_vectorizedMismatch_253 : decode cJ17_vectorizedMismatch 253 = .ok (.iload 11, 2) := dk_21 11 (dk_at dksJ17_vectorizedMismatch_10 20 rfl rfl)
theorem dJ17_vectorizedMismatch_255 : decode cJ17_vectorizedMismatch 255 = .ok (.isub, 1) := dk_100 (dk_at dksJ17_vectorizedMismatch_10 22 rfl rfl)
theorem dJ17_vectorizedMismatch_256 : decode cJ17_vectorizedMismatch 256 = .ok (.istore 10, 2) := dk_54 10 (dk_at dksJ17_vectorizedMismatch_11 0 rfl rfl)
theorem dJ17_vectorizedMismatch_258 : decode cJ17_vectorizedMismatch 258 = .ok (.iload 10, 2) := dk_21 10 (dk_at dksJ17_vectorizedMismatch_11 2 rfl rfl)
theorem dJ17_vectorizedMismatch_260 : decode cJ17_vectorizedMismatch 260 = .ok (.iconst (-1), 1) := dk_2 (dk_at dksJ17_vectorizedMismatch_11 4 rfl rfl)
theorem dJ17_vectorizedMismatch_261 : decode cJ17_vectorizedMismatch 261 = .ok (.ixor, 1) := dk_130 (dk_at dksJ17_vectorizedMismatch_11 5 rfl rfl)
theorem dJ17_vectorizedMismatch_262 : decode cJ17_vectorizedMismatch 262 = .ok (.ireturn, 1) := dk_172 (dk_at dksJ17_vectorizedMismatch_11 6 rfl rfl)
theorem dJ17_vectorizedMismatch_263 : decode cJ17_vectorizedMismatch 263 = .ok (.iload 10, 2) := dk_21 10 (dk_at dksJ17_vectorizedMismatch_11 7 rfl rfl)
theorem dJ17_vectorizedMismatch_265 : decode cJ17_vectorizedMismatch 265 = .ok (.iconst (-1), 1) := dk_2 (dk_at dksJ17_vectorizedMismatch_11 9 rfl rfl)
theorem dJ17_vectorizedMismatch_266 : decode cJ17_vectorizedMismatch 266 = .ok (.ixor, 1) := dk_130 (dk_at dksJ17_vectorizedMismatch_11 10 rfl rfl)
theorem dJ17_vectorizedMismatch_267 : decode cJ17_vectorizedMismatch 267 = .ok (.ireturn, 1) := dk_172 (dk_at dksJ17_vectorizedMismatch_11 11 rfl rfl)
theorem q120 : (Jvm.Cond.initialized "jdk/internal/util/ArraysSupport") ∈ lw_all := lw_g (lw_at lw_m1 24 rfl) rfl
theorem q662 : (Jvm.Cond.static ({ cls := "jdk/internal/util/ArraysSupport", name := "newLength", desc := "(III)I" } : Jvm.MethodName)) ∈ lw_all := lw_g (lw_at lw_m3 86 rfl) rfl
theorem q663 : (Jvm.Cond.code ({ cls := "jdk/internal/util/ArraysSupport", name := "newLength", desc := "(III)I" } : Jvm.MethodName) prog_85_method_27_code (4 : Nat) (Option.some Jvm.ClassFile.FieldType.int)) ∈ lw_all := lw_g (lw_at lw_m3 87 rfl) rfl
theorem q664 : (Jvm.Cond.methodLink "jdk/internal/util/ArraysSupport" (194 : Nat) ({ cls := "java/lang/Math", name := "max", desc := "(II)I" } : Jvm.MethodName)) ∈ lw_all := lw_g (lw_at lw_m3 88 rfl) rfl
theorem q667 : (Jvm.Cond.constant "jdk/internal/util/ArraysSupport" (200 : Nat) (2147483639 : Int32)) ∈ lw_all := lw_g (lw_at lw_m3 91 rfl) rfl
theorem q668 : (Jvm.Cond.methodLink "jdk/internal/util/ArraysSupport" (201 : Nat) ({ cls := "jdk/internal/util/ArraysSupport", name := "hugeLength", desc := "(II)I" } : Jvm.MethodName)) ∈ lw_all := lw_g (lw_at lw_m3 92 rfl) rfl
theorem q669 : (Jvm.Cond.static ({ cls := "jdk/internal/util/ArraysSupport", name := "hugeLength", desc := "(II)I" } : Jvm.MethodName)) ∈ lw_all := lw_g (lw_at lw_m3 93 rfl) rfl
theorem q670 : (Jvm.Cond.code ({ cls := "jdk/internal/util/ArraysSupport", name := "hugeLength", desc := "(II)I" } : Jvm.MethodName) prog_85_method_28_code (3 : Nat) (Option.some Jvm.ClassFile.FieldType.int)) ∈ lw_all := lw_g (lw_at lw_m3 94 rfl) rfl
theorem q2213 : (Jvm.Cond.static ({ cls := "jdk/internal/util/ArraysSupport", name := "mismatch", desc := "([B[BI)I" } : Jvm.MethodName)) ∈ lw_all := lw_g (lw_at lw_m9 197 rfl) rfl
theorem q2214 : (Jvm.Cond.code ({ cls := "jdk/internal/util/ArraysSupport", name := "mismatch", desc := "([B[BI)I" } : Jvm.MethodName) prog_85_method_13_code (4 : Nat) (Option.some Jvm.ClassFile.FieldType.int)) ∈ lw_all := lw_g (lw_at lw_m9 198 rfl) rfl
theorem q2215 : (Jvm.Cond.fieldLink "jdk/internal/util/ArraysSupport" (126 : Nat) "jdk/internal/misc/Unsafe" "ARRAY_BYTE_BASE_OFFSET" "I") ∈ lw_all := lw_g (lw_at lw_m9 199 rfl) rfl
theorem q2217 : (Jvm.Cond.fieldLink "jdk/internal/util/ArraysSupport" (129 : Nat) "jdk/internal/util/ArraysSupport" "LOG2_ARRAY_BYTE_INDEX_SCALE" "I") ∈ lw_all := lw_g (lw_at lw_m9 201 rfl) rfl
theorem q2218 : (Jvm.Cond.laysStatic "jdk/internal/util/ArraysSupport" "LOG2_ARRAY_BYTE_INDEX_SCALE" "I") ∈ lw_tbl := lw_at lw_m9 202 rfl
theorem q2219 : (Jvm.Cond.methodLink "jdk/internal/util/ArraysSupport" (122 : Nat) ({ cls := "jdk/internal/util/ArraysSupport", name := "vectorizedMismatch", desc := "(Ljava/lang/Object;JLjava/lang/Object;JII)I" } : Jvm.MethodName)) ∈ lw_all := lw_g (lw_at lw_m9 203 rfl) rfl
theorem q2220 : (Jvm.Cond.static ({ cls := "jdk/internal/util/ArraysSupport", name := "vectorizedMismatch", desc := "(Ljava/lang/Object;JLjava/lang/Object;JII)I" } : Jvm.MethodName)) ∈ lw_all := lw_g (lw_at lw_m9 204 rfl) rfl
theorem q2221 : (Jvm.Cond.code ({ cls := "jdk/internal/util/ArraysSupport", name := "vectorizedMismatch", desc := "(Ljava/lang/Object;JLjava/lang/Object;JII)I" } : Jvm.MethodName) prog_85_method_3_code (19 : Nat) (Option.some Jvm.ClassFile.FieldType.int)) ∈ lw_all := lw_g (lw_at lw_m9 205 rfl) rfl
theorem q2222 : (Jvm.Cond.fieldLink "jdk/internal/util/ArraysSupport" (20 : Nat) "jdk/internal/util/ArraysSupport" "LOG2_ARRAY_LONG_INDEX_SCALE" "I") ∈ lw_all := lw_g (lw_at lw_m9 206 rfl) rfl
theorem q2223 : (Jvm.Cond.laysStatic "jdk/internal/util/ArraysSupport" "LOG2_ARRAY_LONG_INDEX_SCALE" "I") ∈ lw_tbl := lw_at lw_m9 207 rfl
theorem q2224 : (Jvm.Cond.fieldLink "jdk/internal/util/ArraysSupport" (26 : Nat) "jdk/internal/util/ArraysSupport" "U" "Ljdk/internal/misc/Unsafe;") ∈ lw_all := lw_g (lw_at lw_m9 208 rfl) rfl
theorem q2225 : (Jvm.Cond.laysStatic "jdk/internal/util/ArraysSupport" "U" "Ljdk/internal/misc/Unsafe;") ∈ lw_tbl := lw_at lw_m9 209 rfl
theorem q2226 : (Jvm.Cond.methodLink "jdk/internal/util/ArraysSupport" (30 : Nat) ({ cls := "jdk/internal/misc/Unsafe", name := "getLongUnaligned", desc := "(Ljava/lang/Object;J)J" } : Jvm.MethodName)) ∈ lw_all := lw_g (lw_at lw_m9 210 rfl) rfl
theorem q2278 : (Jvm.Cond.fieldLink "jdk/internal/util/ArraysSupport" (36 : Nat) "jdk/internal/util/ArraysSupport" "BIG_ENDIAN" "Z") ∈ lw_all := lw_g (lw_at lw_m10 22 rfl) rfl
theorem q2279 : (Jvm.Cond.laysStatic "jdk/internal/util/ArraysSupport" "BIG_ENDIAN" "Z") ∈ lw_tbl := lw_at lw_m10 23 rfl
theorem q2280 : (Jvm.Cond.methodLink "jdk/internal/util/ArraysSupport" (40 : Nat) ({ cls := "java/lang/Long", name := "numberOfLeadingZeros", desc := "(J)I" } : Jvm.MethodName)) ∈ lw_all := lw_g (lw_at lw_m10 24 rfl) rfl
theorem q2287 : (Jvm.Cond.fieldLink "jdk/internal/util/ArraysSupport" (46 : Nat) "jdk/internal/util/ArraysSupport" "LOG2_BYTE_BIT_SIZE" "I") ∈ lw_all := lw_g (lw_at lw_m10 31 rfl) rfl
theorem q2288 : (Jvm.Cond.laysStatic "jdk/internal/util/ArraysSupport" "LOG2_BYTE_BIT_SIZE" "I") ∈ lw_tbl := lw_at lw_m10 32 rfl
theorem q2289 : (Jvm.Cond.methodLink "jdk/internal/util/ArraysSupport" (49 : Nat) ({ cls := "java/lang/Long", name := "numberOfTrailingZeros", desc := "(J)I" } : Jvm.MethodName)) ∈ lw_all := lw_g (lw_at lw_m10 33 rfl) rfl
theorem q2295 : (Jvm.Cond.fieldLink "jdk/internal/util/ArraysSupport" (51 : Nat) "jdk/internal/util/ArraysSupport" "LOG2_ARRAY_INT_INDEX_SCALE" "I") ∈ lw_all := lw_g (lw_at lw_m10 39 rfl) rfl
theorem q2296 : (Jvm.Cond.laysStatic "jdk/internal/util/ArraysSupport" "LOG2_ARRAY_INT_INDEX_SCALE" "I") ∈ lw_tbl := lw_at lw_m10 40 rfl
theorem q2297 : (Jvm.Cond.methodLink "jdk/internal/util/ArraysSupport" (54 : Nat) ({ cls := "jdk/internal/misc/Unsafe", name := "getIntUnaligned", desc := "(Ljava/lang/Object;J)I" } : Jvm.MethodName)) ∈ lw_all := lw_g (lw_at lw_m10 41 rfl) rfl
theorem q2314 : (Jvm.Cond.methodLink "jdk/internal/util/ArraysSupport" (58 : Nat) ({ cls := "java/lang/Integer", name := "numberOfLeadingZeros", desc := "(I)I" } : Jvm.MethodName)) ∈ lw_all := lw_g (lw_at lw_m10 58 rfl) rfl
theorem q2315 : (Jvm.Cond.methodLink "jdk/internal/util/ArraysSupport" (11 : Nat) ({ cls := "java/lang/Integer", name := "numberOfTrailingZeros", desc := "(I)I" } : Jvm.MethodName)) ∈ lw_all := lw_g (lw_at lw_m10 59 rfl) rfl

/-! java/lang/Math -/
set_option maxRecDepth 100000
/-! java/util/Arrays -/
set_option maxRecDepth 100000
def RJ19 : String := "java/util/Arrays"
abbrev cJ19_copyOf : ByteArray := prog_65_method_121_code
def yJ19_copyOf : MethodName := ⟨RJ19, "copyOf", "([BI)[B"⟩
def dkwJ19_copyOf_1 : List UInt8 := [27, 184, 1, 48, 184, 0, 150, 44, 176]
abbrev dktJ19_copyOf_1 : List UInt8 := dkwJ19_copyOf_1 ++ []
def dkwJ19_copyOf_0 : List UInt8 := [27, 42, 190, 160, 0, 11, 42, 182, 1, 54, 192, 1, 55, 176, 27, 188, 8, 77, 42, 3, 44, 3, 42, 190]
abbrev dktJ19_copyOf_0 : List UInt8 := dkwJ19_copyOf_0 ++ dktJ19_copyOf_1
theorem dksJ19_copyOf_0 : cJ19_copyOf.data.toList.drop 0 = dktJ19_copyOf_0 := by decide +kernel
theorem dksJ19_copyOf_1 : cJ19_copyOf.data.toList.drop 24 = dktJ19_copyOf_1 := dk_seg dksJ19_copyOf_0 24 rfl rfl
theorem dJ19_copyOf_0 : decode cJ19_copyOf 0 = .ok (.iload_n 1, 1) := dk_27 (dk_at dksJ19_copyOf_0 0 rfl rfl)
theorem dJ19_copyOf_1 : decode cJ19_copyOf 1 = .ok (.aload_n 0, 1) := dk_42 (dk_at dksJ19_copyOf_0 1 rfl rfl)
theorem dJ19_copyOf_2 : decode cJ19_copyOf 2 = .ok (.arraylength, 1) := dk_190 (dk_at dksJ19_copyOf_0 2 rfl rfl)
theorem dJ19_copyOf_3 : decode cJ19_copyOf 3 = .ok (.if_icmp .ne 11, 3) := dk_160 0 11 (dk_at dksJ19_copyOf_0 3 rfl rfl)
theorem dJ19_copyOf_6 : decode cJ19_copyOf 6 = .ok (.aload_n 0, 1) := dk_42 (dk_at dksJ19_copyOf_0 6 rfl rfl)
theorem dJ19_copyOf_7 : decode cJ19_copyOf 7 = .ok (.invokevirtual 310, 3) := dk_182 1 54 (dk_at dksJ19_copyOf_0 7 rfl rfl)
theorem dJ19_copyOf_10 : decode cJ19_copyOf 10 = .ok (.checkcast 311, 3) := dk_192 1 55 (dk_at dksJ19_copyOf_0 10 rfl rfl)
theorem dJ19_copyOf_13 : decode cJ19_copyOf 13 = .ok (.areturn, 1) := dk_176 (dk_at dksJ19_copyOf_0 13 rfl rfl)
theorem dJ19_copyOf_14 : decode cJ19_copyOf 14 = .ok (.iload_n 1, 1) := dk_27 (dk_at dksJ19_copyOf_0 14 rfl rfl)
theorem dJ19_copyOf_15 : decode cJ19_copyOf 15 = .ok (.newarray .byte, 2) := dk_188_8 (dk_at dksJ19_copyOf_0 15 rfl rfl)
theorem dJ19_copyOf_17 : decode cJ19_copyOf 17 = .ok (.astore_n 2, 1) := dk_77 (dk_at dksJ19_copyOf_0 17 rfl rfl)
theorem dJ19_copyOf_18 : decode cJ19_copyOf 18 = .ok (.aload_n 0, 1) := dk_42 (dk_at dksJ19_copyOf_0 18 rfl rfl)
theorem dJ19_copyOf_19 : decode cJ19_copyOf 19 = .ok (.iconst 0, 1) := dk_3 (dk_at dksJ19_copyOf_0 19 rfl rfl)
theorem dJ19_copyOf_20 : decode cJ19_copyOf 20 = .ok (.aload_n 2, 1) := dk_44 (dk_at dksJ19_copyOf_0 20 rfl rfl)
theorem dJ19_copyOf_21 : decode cJ19_copyOf 21 = .ok (.iconst 0, 1) := dk_3 (dk_at dksJ19_copyOf_0 21 rfl rfl)
theorem dJ19_copyOf_22 : decode cJ19_copyOf 22 = .ok (.aload_n 0, 1) := dk_42 (dk_at dksJ19_copyOf_0 22 rfl rfl)
theorem dJ19_copyOf_23 : decode cJ19_copyOf 23 = .ok (.arraylength, 1) := dk_190 (dk_at dksJ19_copyOf_0 23 rfl rfl)
theorem dJ19_copyOf_24 : decode cJ19_copyOf 24 = .ok (.iload_n 1, 1) := dk_27 (dk_at dksJ19_copyOf_1 0 rfl rfl)
theorem dJ19_copyOf_25 : decode cJ19_copyOf 25 = .ok (.invokestatic 304, 3) := dk_184 1 48 (dk_at dksJ19_copyOf_1 1 rfl rfl)
theorem dJ19_copyOf_28 : decode cJ19_copyOf 28 = .ok (.invokestatic 150, 3) := dk_184 0 150 (dk_at dksJ19_copyOf_1 4 rfl rfl)
theorem dJ19_copyOf_31 : decode cJ19_copyOf 31 = .ok (.aload_n 2, 1) := dk_44 (dk_at dksJ19_copyOf_1 7 rfl rfl)
theorem dJ19_copyOf_32 : decode cJ19_copyOf 32 = .ok (.areturn, 1) := dk_176 (dk_at dksJ19_copyOf_1 8 rfl rfl)
abbrev cJ19_copyOfRange : ByteArray := prog_65_method_132_code
def yJ19_copyOfRange : MethodName := ⟨RJ19, "copyOfRange", "([BII)[B"⟩
def dkwJ19_copyOfRange_1 : List UInt8 := [176]
abbrev dktJ19_copyOfRange_1 : List UInt8 := dkwJ19_copyOfRange_1 ++ []
def dkwJ19_copyOfRange_0 : List UInt8 := [27, 154, 0, 9, 28, 42, 190, 159, 0, 10, 42, 27, 28, 184, 1, 83, 176, 42, 182, 1, 54, 192, 1, 55]
abbrev dktJ19_copyOfRange_0 : List UInt8 := dkwJ19_copyOfRange_0 ++ dktJ19_copyOfRange_1
theorem dksJ19_copyOfRange_0 : cJ19_copyOfRange.data.toList.drop 0 = dktJ19_copyOfRange_0 := by decide +kernel
theorem dksJ19_copyOfRange_1 : cJ19_copyOfRange.data.toList.drop 24 = dktJ19_copyOfRange_1 := dk_seg dksJ19_copyOfRange_0 24 rfl rfl
theorem dJ19_copyOfRange_0 : decode cJ19_copyOfRange 0 = .ok (.iload_n 1, 1) := dk_27 (dk_at dksJ19_copyOfRange_0 0 rfl rfl)
theorem dJ19_copyOfRange_1 : decode cJ19_copyOfRange 1 = .ok (.ifCond .ne 9, 3) := dk_154 0 9 (dk_at dksJ19_copyOfRange_0 1 rfl rfl)
theorem dJ19_copyOfRange_4 : decode cJ19_copyOfRange 4 = .ok (.iload_n 2, 1) := dk_28 (dk_at dksJ19_copyOfRange_0 4 rfl rfl)
theorem dJ19_copyOfRange_5 : decode cJ19_copyOfRange 5 = .ok (.aload_n 0, 1) := dk_42 (dk_at dksJ19_copyOfRange_0 5 rfl rfl)
theorem dJ19_copyOfRange_6 : decode cJ19_copyOfRange 6 = .ok (.arraylength, 1) := dk_190 (dk_at dksJ19_copyOfRange_0 6 rfl rfl)
theorem dJ19_copyOfRange_7 : decode cJ19_copyOfRange 7 = .ok (.if_icmp .eq 10, 3) := dk_159 0 10 (dk_at dksJ19_copyOfRange_0 7 rfl rfl)
theorem dJ19_copyOfRange_10 : decode cJ19_copyOfRange 10 = .ok (.aload_n 0, 1) := dk_42 (dk_at dksJ19_copyOfRange_0 10 rfl rfl)
theorem dJ19_copyOfRange_11 : decode cJ19_copyOfRange 11 = .ok (.iload_n 1, 1) := dk_27 (dk_at dksJ19_copyOfRange_0 11 rfl rfl)
theorem dJ19_copyOfRange_12 : decode cJ19_copyOfRange 12 = .ok (.iload_n 2, 1) := dk_28 (dk_at dksJ19_copyOfRange_0 12 rfl rfl)
theorem dJ19_copyOfRange_13 : decode cJ19_copyOfRange 13 = .ok (.invokestatic 339, 3) := dk_184 1 83 (dk_at dksJ19_copyOfRange_0 13 rfl rfl)
theorem dJ19_copyOfRange_16 : decode cJ19_copyOfRange 16 = .ok (.areturn, 1) := dk_176 (dk_at dksJ19_copyOfRange_0 16 rfl rfl)
theorem dJ19_copyOfRange_17 : decode cJ19_copyOfRange 17 = .ok (.aload_n 0, 1) := dk_42 (dk_at dksJ19_copyOfRange_0 17 rfl rfl)
theorem dJ19_copyOfRange_18 : decode cJ19_copyOfRange 18 = .ok (.invokevirtual 310, 3) := dk_182 1 54 (dk_at dksJ19_copyOfRange_0 18 rfl rfl)
theorem dJ19_copyOfRange_21 : decode cJ19_copyOfRange 21 = .ok (.checkcast 311, 3) := dk_192 1 55 (dk_at dksJ19_copyOfRange_0 21 rfl rfl)
theorem dJ19_copyOfRange_24 : decode cJ19_copyOfRange 24 = .ok (.areturn, 1) := dk_176 (dk_at dksJ19_copyOfRange_1 0 rfl rfl)
abbrev cJ19_copyOfRangeByte : ByteArray := prog_65_method_133_code
def yJ19_copyOfRangeByte : MethodName := ⟨RJ19, "copyOfRangeByte", "([BII)[B"⟩
def dkwJ19_copyOfRangeByte_1 : List UInt8 := [184, 1, 48, 184, 0, 150, 25, 4, 176]
abbrev dktJ19_copyOfRangeByte_1 : List UInt8 := dkwJ19_copyOfRangeByte_1 ++ []
def dkwJ19_copyOfRangeByte_0 : List UInt8 := [27, 28, 184, 1, 87, 28, 27, 100, 62, 29, 188, 8, 58, 4, 42, 27, 25, 4, 3, 42, 190, 27, 100, 29]
abbrev dktJ19_copyOfRangeByte_0 : List UInt8 := dkwJ19_copyOfRangeByte_0 ++ dktJ19_copyOfRangeByte_1
theorem dksJ19_copyOfRangeByte_0 : cJ19_copyOfRangeByte.data.toList.drop 0 = dktJ19_copyOfRangeByte_0 := by decide +kernel
theorem dksJ19_copyOfRangeByte_1 : cJ19_copyOfRangeByte.data.toList.drop 24 = dktJ19_copyOfRangeByte_1 := dk_seg dksJ19_copyOfRangeByte_0 24 rfl rfl
theorem dJ19_copyOfRangeByte_0 : decode cJ19_copyOfRangeByte 0 = .ok (.iload_n 1, 1) := dk_27 (dk_at dksJ19_copyOfRangeByte_0 0 rfl rfl)
theorem dJ19_copyOfRangeByte_1 : decode cJ19_copyOfRangeByte 1 = .ok (.iload_n 2, 1) := dk_28 (dk_at dksJ19_copyOfRangeByte_0 1 rfl rfl)
theorem dJ19_copyOfRangeByte_2 : decode cJ19_copyOfRangeByte 2 = .ok (.invokestatic 343, 3) := dk_184 1 87 (dk_at dksJ19_copyOfRangeByte_0 2 rfl rfl)
theorem dJ19_copyOfRangeByte_5 : decode cJ19_copyOfRangeByte 5 = .ok (.iload_n 2, 1) := dk_28 (dk_at dksJ19_copyOfRangeByte_0 5 rfl rfl)
theorem dJ19_copyOfRangeByte_6 : decode cJ19_copyOfRangeByte 6 = .ok (.iload_n 1, 1) := dk_27 (dk_at dksJ19_copyOfRangeByte_0 6 rfl rfl)
theorem dJ19_copyOfRangeByte_7 : decode cJ19_copyOfRangeByte 7 = .ok (.isub, 1) := dk_100 (dk_at dksJ19_copyOfRangeByte_0 7 rfl rfl)
theorem dJ19_copyOfRangeByte_8 : decode cJ19_copyOfRangeByte 8 = .ok (.istore_n 3, 1) := dk_62 (dk_at dksJ19_copyOfRangeByte_0 8 rfl rfl)
theorem dJ19_copyOfRangeByte_9 : decode cJ19_copyOfRangeByte 9 = .ok (.iload_n 3, 1) := dk_29 (dk_at dksJ19_copyOfRangeByte_0 9 rfl rfl)
theorem dJ19_copyOfRangeByte_10 : decode cJ19_copyOfRangeByte 10 = .ok (.newarray .byte, 2) := dk_188_8 (dk_at dksJ19_copyOfRangeByte_0 10 rfl rfl)
theorem dJ19_copyOfRangeByte_12 : decode cJ19_copyOfRangeByte 12 = .ok (.astore 4, 2) := dk_58 4 (dk_at dksJ19_copyOfRangeByte_0 12 rfl rfl)
theorem dJ19_copyOfRangeByte_14 : decode cJ19_copyOfRangeByte 14 = .ok (.aload_n 0, 1) := dk_42 (dk_at dksJ19_copyOfRangeByte_0 14 rfl rfl)
theorem dJ19_copyOfRangeByte_15 : decode cJ19_copyOfRangeByte 15 = .ok (.iload_n 1, 1) := dk_27 (dk_at dksJ19_copyOfRangeByte_0 15 rfl rfl)
theorem dJ19_copyOfRangeByte_16 : decode cJ19_copyOfRangeByte 16 = .ok (.aload 4, 2) := dk_25 4 (dk_at dksJ19_copyOfRangeByte_0 16 rfl rfl)
theorem dJ19_copyOfRangeByte_18 : decode cJ19_copyOfRangeByte 18 = .ok (.iconst 0, 1) := dk_3 (dk_at dksJ19_copyOfRangeByte_0 18 rfl rfl)
theorem dJ19_copyOfRangeByte_19 : decode cJ19_copyOfRangeByte 19 = .ok (.aload_n 0, 1) := dk_42 (dk_at dksJ19_copyOfRangeByte_0 19 rfl rfl)
theorem dJ19_copyOfRangeByte_20 : decode cJ19_copyOfRangeByte 20 = .ok (.arraylength, 1) := dk_190 (dk_at dksJ19_copyOfRangeByte_0 20 rfl rfl)
theorem dJ19_copyOfRangeByte_21 : decode cJ19_copyOfRangeByte 21 = .ok (.iload_n 1, 1) := dk_27 (dk_at dksJ19_copyOfRangeByte_0 21 rfl rfl)
theorem dJ19_copyOfRangeByte_22 : decode cJ19_copyOfRangeByte 22 = .ok (.isub, 1) := dk_100 (dk_at dksJ19_copyOfRangeByte_0 22 rfl rfl)
theorem dJ19_copyOfRangeByte_23 : decode cJ19_copyOfRangeByte 23 = .ok (.iload_n 3, 1) := dk_29 (dk_at dksJ19_copyOfRangeByte_0 23 rfl rfl)
theorem dJ19_copyOfRangeByte_24 : decode cJ19_copyOfRangeByte 24 = .ok (.invokestatic 304, 3) := dk_184 1 48 (dk_at dksJ19_copyOfRangeByte_1 0 rfl rfl)
theorem dJ19_copyOfRangeByte_27 : decode cJ19_copyOfRangeByte 27 = .ok (.invokestatic 150, 3) := dk_184 0 150 (dk_at dksJ19_copyOfRangeByte_1 3 rfl rfl)
theorem dJ19_copyOfRangeByte_30 : decode cJ19_copyOfRangeByte 30 = .ok (.aload 4, 2) := dk_25 4 (dk_at dksJ19_copyOfRangeByte_1 6 rfl rfl)
theorem dJ19_copyOfRangeByte_32 : decode cJ19_copyOfRangeByte 32 = .ok (.areturn, 1) := dk_176 (dk_at dksJ19_copyOfRangeByte_1 8 rfl rfl)
abbrev cJ19_checkLength : ByteArray := prog_65_method_131_code
def yJ19_checkLength : MethodName := ⟨RJ19, "checkLength", "(II)V"⟩
def dkwJ19_checkLength_1 : List UInt8 := [182, 0, 50, 27, 182, 0, 54, 182, 0, 61, 183, 0, 65, 191, 177]
abbrev dktJ19_checkLength_1 : List UInt8 := dkwJ19_checkLength_1 ++ []
def dkwJ19_checkLength_0 : List UInt8 := [27, 26, 162, 0, 35, 187, 0, 43, 89, 187, 0, 45, 89, 183, 0, 47, 26, 182, 0, 54, 19, 1, 81]
abbrev dktJ19_checkLength_0 : List UInt8 := dkwJ19_checkLength_0 ++ dktJ19_checkLength_1
theorem dksJ19_checkLength_0 : cJ19_checkLength.data.toList.drop 0 = dktJ19_checkLength_0 := by decide +kernel
theorem dksJ19_checkLength_1 : cJ19_checkLength.data.toList.drop 23 = dktJ19_checkLength_1 := dk_seg dksJ19_checkLength_0 23 rfl rfl
theorem dJ19_checkLength_0 : decode cJ19_checkLength 0 = .ok (.iload_n 1, 1) := dk_27 (dk_at dksJ19_checkLength_0 0 rfl rfl)
theorem dJ19_checkLength_1 : decode cJ19_checkLength 1 = .ok (.iload_n 0, 1) := dk_26 (dk_at dksJ19_checkLength_0 1 rfl rfl)
theorem dJ19_checkLength_2 : decode cJ19_checkLength 2 = .ok (.if_icmp .ge 35, 3) := dk_162 0 35 (dk_at dksJ19_checkLength_0 2 rfl rfl)
theorem dJ19_checkLength_5 : decode cJ19_checkLength 5 = .ok (.new 43, 3) := dk_187 0 43 (dk_at dksJ19_checkLength_0 5 rfl rfl)
theorem dJ19_checkLength_8 : decode cJ19_checkLength 8 = .ok (.dup, 1) := dk_89 (dk_at dksJ19_checkLength_0 8 rfl rfl)
theorem dJ19_checkLength_9 : decode cJ19_checkLength 9 = .ok (.new 45, 3) := dk_187 0 45 (dk_at dksJ19_checkLength_0 9 rfl rfl)
theorem dJ19_checkLength_12 : decode cJ19_checkLength 12 = .ok (.dup, 1) := dk_89 (dk_at dksJ19_checkLength_0 12 rfl rfl)
theorem dJ19_checkLength_13 : decode cJ19_checkLength 13 = .ok (.invokespecial 47, 3) := dk_183 0 47 (dk_at dksJ19_checkLength_0 13 rfl rfl)
theorem dJ19_checkLength_16 : decode cJ19_checkLength 16 = .ok (.iload_n 0, 1) := dk_26 (dk_at dksJ19_checkLength_0 16 rfl rfl)
theorem dJ19_checkLength_17 : decode cJ19_checkLength 17 = .ok (.invokevirtual 54, 3) := dk_182 0 54 (dk_at dksJ19_checkLength_0 17 rfl rfl)
theorem dJ19_checkLength_20 : decode cJ19_checkLength 20 = .ok (.ldc_w 337, 3) := dk_19 1 81 (dk_at dksJ19_checkLength_0 20 rfl rfl)
theorem dJ19_checkLength_23 : decode cJ19_checkLength 23 = .ok (.invokevirtual 50, 3) := dk_182 0 50 (dk_at dksJ19_checkLength_1 0 rfl rfl)
theorem dJ19_checkLength_26 : decode cJ19_checkLength 26 = .ok (.iload_n 1, 1) := dk_27 (dk_at dksJ19_checkLength_1 3 rfl rfl)
theorem dJ19_checkLength_27 : decode cJ19_checkLength 27 = .ok (.invokevirtual 54, 3) := dk_182 0 54 (dk_at dksJ19_checkLength_1 4 rfl rfl)
theorem dJ19_checkLength_30 : decode cJ19_checkLength 30 = .ok (.invokevirtual 61, 3) := dk_182 0 61 (dk_at dksJ19_checkLength_1 7 rfl rfl)
theorem dJ19_checkLength_33 : decode cJ19_checkLength 33 = .ok (.invokespecial 65, 3) := dk_183 0 65 (dk_at dksJ19_checkLength_1 10 rfl rfl)
theorem dJ19_checkLength_36 : decode cJ19_checkLength 36 = .ok (.athrow, 1) := dk_191 (dk_at dksJ19_checkLength_1 13 rfl rfl)
theorem dJ19_checkLength_37 : decode cJ19_checkLength 37 = .ok (.return_, 1) := dk_177 (dk_at dksJ19_checkLength_1 14 rfl rfl)
abbrev cJ19_copyOf_2 : ByteArray := prog_65_method_119_code
def yJ19_copyOf_2 : MethodName := ⟨RJ19, "copyOf", "([Ljava/lang/Object;I)[Ljava/lang/Object;"⟩
def dkwJ19_copyOf_2_0 : List UInt8 := [42, 27, 42, 182, 0, 86, 184, 1, 44, 176]
abbrev dktJ19_copyOf_2_0 : List UInt8 := dkwJ19_copyOf_2_0 ++ []
theorem dksJ19_copyOf_2_0 : cJ19_copyOf_2.data.toList.drop 0 = dktJ19_copyOf_2_0 := by decide +kernel
theorem dJ19_copyOf_2_0 : decode cJ19_copyOf_2 0 = .ok (.aload_n 0, 1) := dk_42 (dk_at dksJ19_copyOf_2_0 0 rfl rfl)
theorem dJ19_copyOf_2_1 : decode cJ19_copyOf_2 1 = .ok (.iload_n 1, 1) := dk_27 (dk_at dksJ19_copyOf_2_0 1 rfl rfl)
theorem dJ19_copyOf_2_2 : decode cJ19_copyOf_2 2 = .ok (.aload_n 0, 1) := dk_42 (dk_at dksJ19_copyOf_2_0 2 rfl rfl)
theorem dJ19_copyOf_2_3 : decode cJ19_copyOf_2 3 = .ok (.invokevirtual 86, 3) := dk_182 0 86 (dk_at dksJ19_copyOf_2_0 3 rfl rfl)
theorem dJ19_copyOf_2_6 : decode cJ19_copyOf_2 6 = .ok (.invokestatic 300, 3) := dk_184 1 44 (dk_at dksJ19_copyOf_2_0 6 rfl rfl)
theorem dJ19_copyOf_2_9 : decode cJ19_copyOf_2 9 = .ok (.areturn, 1) := dk_176 (dk_at dksJ19_copyOf_2_0 9 rfl rfl)
abbrev cJ19_copyOf_3 : ByteArray := prog_65_method_120_code
def yJ19_copyOf_3 : MethodName := ⟨RJ19, "copyOf", "([Ljava/lang/Object;ILjava/lang/Class;)[Ljava/lang/Object;"⟩
def dkwJ19_copyOf_3_1 : List UInt8 := [78, 42, 3, 45, 3, 42, 190, 27, 184, 1, 48, 184, 0, 150, 45, 176]
abbrev dktJ19_copyOf_3_1 : List UInt8 := dkwJ19_copyOf_3_1 ++ []
def dkwJ19_copyOf_3_0 : List UInt8 := [44, 18, 110, 166, 0, 10, 27, 189, 0, 2, 167, 0, 14, 44, 182, 0, 90, 27, 184, 0, 95, 192, 0, 110]
abbrev dktJ19_copyOf_3_0 : List UInt8 := dkwJ19_copyOf_3_0 ++ dktJ19_copyOf_3_1
theorem dksJ19_copyOf_3_0 : cJ19_copyOf_3.data.toList.drop 0 = dktJ19_copyOf_3_0 := by decide +kernel
theorem dksJ19_copyOf_3_1 : cJ19_copyOf_3.data.toList.drop 24 = dktJ19_copyOf_3_1 := dk_seg dksJ19_copyOf_3_0 24 rfl rfl
theorem dJ19_copyOf_3_0 : decode cJ19_copyOf_3 0 = .ok (.aload_n 2, 1) := dk_44 (dk_at dksJ19_copyOf_3_0 0 rfl rfl)
theorem dJ19_copyOf_3_1 : decode cJ19_copyOf_3 1 = .ok (.ldc 110, 2) := dk_18 110 (dk_at dksJ19_copyOf_3_0 1 rfl rfl)
theorem dJ19_copyOf_3_3 : decode cJ19_copyOf_3 3 = .ok (.if_acmp .ne 10, 3) := dk_166 0 10 (dk_at dksJ19_copyOf_3_0 3 rfl rfl)
theorem dJ19_copyOf_3_6 : decode cJ19_copyOf_3 6 = .ok (.iload_n 1, 1) := dk_27 (dk_at dksJ19_copyOf_3_0 6 rfl rfl)
theorem dJ19_copyOf_3_7 : decode cJ19_copyOf_3 7 = .ok (.anewarray 2, 3) := dk_189 0 2 (dk_at dksJ19_copyOf_3_0 7 rfl rfl)
theorem dJ19_copyOf_3_10 : decode cJ19_copyOf_3 10 = .ok (.goto 14, 3) := dk_167 0 14 (dk_at dksJ19_copyOf_3_0 10 rfl rfl)
theorem dJ19_copyOf_3_13 : decode cJ19_copyOf_3 13 = .ok (.aload_n 2, 1) := dk_44 (dk_at dksJ19_copyOf_3_0 13 rfl rfl)
theorem dJ19_copyOf_3_14 : decode cJ19_copyOf_3 14 = .ok (.invokevirtual 90, 3) := dk_182 0 90 (dk_at dksJ19_copyOf_3_0 14 rfl rfl)
theorem dJ19_copyOf_3_17 : decode cJ19_copyOf_3 17 = .ok (.iload_n 1, 1) := dk_27 (dk_at dksJ19_copyOf_3_0 17 rfl rfl)
theorem dJ19_copyOf_3_18 : decode cJ19_copyOf_3 18 = .ok (.invokestatic 95, 3) := dk_184 0 95 (dk_at dksJ19_copyOf_3_0 18 rfl rfl)
theorem dJ19_copyOf_3_21 : decode cJ19_copyOf_3 21 = .ok (.checkcast 110, 3) := dk_192 0 110 (dk_at dksJ19_copyOf_3_0 21 rfl rfl)
theorem dJ19_copyOf_3_24 : decode cJ19_copyOf_3 24 = .ok (.astore_n 3, 1) := dk_78 (dk_at dksJ19_copyOf_3_1 0 rfl rfl)
theorem dJ19_copyOf_3_25 : decode cJ19_copyOf_3 25 = .ok (.aload_n 0, 1) := dk_42 (dk_at dksJ19_copyOf_3_1 1 rfl rfl)
theorem dJ19_copyOf_3_26 : decode cJ19_copyOf_3 26 = .ok (.iconst 0, 1) := dk_3 (dk_at dksJ19_copyOf_3_1 2 rfl rfl)
theorem dJ19_copyOf_3_27 : decode cJ19_copyOf_3 27 = .ok (.aload_n 3, 1) := dk_45 (dk_at dksJ19_copyOf_3_1 3 rfl rfl)
theorem dJ19_copyOf_3_28 : decode cJ19_copyOf_3 28 = .ok (.iconst 0, 1) := dk_3 (dk_at dksJ19_copyOf_3_1 4 rfl rfl)
theorem dJ19_copyOf_3_29 : decode cJ19_copyOf_3 29 = .ok (.aload_n 0, 1) := dk_42 (dk_at dksJ19_copyOf_3_1 5 rfl rfl)
theorem dJ19_copyOf_3_30 : decode cJ19_copyOf_3 30 = .ok (.arraylength, 1) := dk_190 (dk_at dksJ19_copyOf_3_1 6 rfl rfl)
theorem dJ19_copyOf_3_31 : decode cJ19_copyOf_3 31 = .ok (.iload_n 1, 1) := dk_27 (dk_at dksJ19_copyOf_3_1 7 rfl rfl)
theorem dJ19_copyOf_3_32 : decode cJ19_copyOf_3 32 = .ok (.invokestatic 304, 3) := dk_184 1 48 (dk_at dksJ19_copyOf_3_1 8 rfl rfl)
theorem dJ19_copyOf_3_35 : decode cJ19_copyOf_3 35 = .ok (.invokestatic 150, 3) := dk_184 0 150 (dk_at dksJ19_copyOf_3_1 11 rfl rfl)
theorem dJ19_copyOf_3_38 : decode cJ19_copyOf_3 38 = .ok (.aload_n 3, 1) := dk_45 (dk_at dksJ19_copyOf_3_1 14 rfl rfl)
theorem dJ19_copyOf_3_39 : decode cJ19_copyOf_3 39 = .ok (.areturn, 1) := dk_176 (dk_at dksJ19_copyOf_3_1 15 rfl rfl)
abbrev cJ19_copyOfRange_2 : ByteArray := prog_65_method_130_code
def yJ19_copyOfRange_2 : MethodName := ⟨RJ19, "copyOfRange", "([Ljava/lang/Object;IILjava/lang/Class;)[Ljava/lang/Object;"⟩
def dkwJ19_copyOfRange_2_3 : List UInt8 := [58, 5, 42, 27, 25, 5, 3, 42, 190, 27, 100, 21, 4, 184, 1, 48, 184, 0, 150, 25, 5, 176]
abbrev dktJ19_copyOfRange_2_3 : List UInt8 := dkwJ19_copyOfRange_2_3 ++ []
def dkwJ19_copyOfRange_2_2 : List UInt8 := [166, 0, 11, 21, 4, 189, 0, 2, 167, 0, 15, 45, 182, 0, 90, 21, 4, 184, 0, 95, 192, 0, 110]
abbrev dktJ19_copyOfRange_2_2 : List UInt8 := dkwJ19_copyOfRange_2_2 ++ dktJ19_copyOfRange_2_3
def dkwJ19_copyOfRange_2_1 : List UInt8 := [182, 0, 54, 19, 1, 81, 182, 0, 50, 28, 182, 0, 54, 182, 0, 61, 183, 0, 65, 191, 45, 18, 110]
abbrev dktJ19_copyOfRange_2_1 : List UInt8 := dkwJ19_copyOfRange_2_1 ++ dktJ19_copyOfRange_2_2
def dkwJ19_copyOfRange_2_0 : List UInt8 := [28, 27, 100, 54, 4, 21, 4, 156, 0, 35, 187, 0, 43, 89, 187, 0, 45, 89, 183, 0, 47, 27]
abbrev dktJ19_copyOfRange_2_0 : List UInt8 := dkwJ19_copyOfRange_2_0 ++ dktJ19_copyOfRange_2_1
theorem dksJ19_copyOfRange_2_0 : cJ19_copyOfRange_2.data.toList.drop 0 = dktJ19_copyOfRange_2_0 := by decide +kernel
theorem dksJ19_copyOfRange_2_1 : cJ19_copyOfRange_2.data.toList.drop 22 = dktJ19_copyOfRange_2_1 := dk_seg dksJ19_copyOfRange_2_0 22 rfl rfl
theorem dksJ19_copyOfRange_2_2 : cJ19_copyOfRange_2.data.toList.drop 45 = dktJ19_copyOfRange_2_2 := dk_seg dksJ19_copyOfRange_2_1 23 rfl rfl
theorem dksJ19_copyOfRange_2_3 : cJ19_copyOfRange_2.data.toList.drop 68 = dktJ19_copyOfRange_2_3 := dk_seg dksJ19_copyOfRange_2_2 23 rfl rfl
theorem dJ19_copyOfRange_2_0 : decode cJ19_copyOfRange_2 0 = .ok (.iload_n 2, 1) := dk_28 (dk_at dksJ19_copyOfRange_2_0 0 rfl rfl)
theorem dJ19_copyOfRange_2_1 : decode cJ19_copyOfRange_2 1 = .ok (.iload_n 1, 1) := dk_27 (dk_at dksJ19_copyOfRange_2_0 1 rfl rfl)
theorem dJ19_copyOfRange_2_2 : decode cJ19_copyOfRange_2 2 = .ok (.isub, 1) := dk_100 (dk_at dksJ19_copyOfRange_2_0 2 rfl rfl)
theorem dJ19_copyOfRange_2_3 : decode cJ19_copyOfRange_2 3 = .ok (.istore 4, 2) := dk_54 4 (dk_at dksJ19_copyOfRange_2_0 3 rfl rfl)
theorem dJ19_copyOfRange_2_5 : decode cJ19_copyOfRange_2 5 = .ok (.iload 4, 2) := dk_21 4 (dk_at dksJ19_copyOfRange_2_0 5 rfl rfl)
theorem dJ19_copyOfRange_2_7 : decode cJ19_copyOfRange_2 7 = .ok (.ifCond .ge 35, 3) := dk_156 0 35 (dk_at dksJ19_copyOfRange_2_0 7 rfl rfl)
theorem dJ19_copyOfRange_2_10 : decode cJ19_copyOfRange_2 10 = .ok (.new 43, 3) := dk_187 0 43 (dk_at dksJ19_copyOfRange_2_0 10 rfl rfl)
theorem dJ19_copyOfRange_2_13 : decode cJ19_copyOfRange_2 13 = .ok (.dup, 1) := dk_89 (dk_at dksJ19_copyOfRange_2_0 13 rfl rfl)
theorem dJ19_copyOfRange_2_14 : decode cJ19_copyOfRange_2 14 = .ok (.new 45, 3) := dk_187 0 45 (dk_at dksJ19_copyOfRange_2_0 14 rfl rfl)
theorem dJ19_copyOfRange_2_17 : decode cJ19_copyOfRange_2 17 = .ok (.dup, 1) := dk_89 (dk_at dksJ19_copyOfRange_2_0 17 rfl rfl)
theorem dJ19_copyOfRange_2_18 : decode cJ19_copyOfRange_2 18 = .ok (.invokespecial 47, 3) := dk_183 0 47 (dk_at dksJ19_copyOfRange_2_0 18 rfl rfl)
theorem dJ19_copyOfRange_2_21 : decode cJ19_copyOfRange_2 21 = .ok (.iload_n 1, 1) := dk_27 (dk_at dksJ19_copyOfRange_2_0 21 rfl rfl)
theorem dJ19_copyOfRange_2_22 : decode cJ19_copyOfRange_2 22 = .ok (.invokevirtual 54, 3) := dk_182 0 54 (dk_at dksJ19_copyOfRange_2_1 0 rfl rfl)
theorem dJ19_copyOfRange_2_25 : decode cJ19_copyOfRange_2 25 = .ok (.ldc_w 337, 3) := dk_19 1 81 (dk_at dksJ19_copyOfRange_2_1 3 rfl rfl)
theorem dJ19_copyOfRange_2_28 : decode cJ19_copyOfRange_2 28 = .ok (.invokevirtual 50, 3) := dk_182 0 50 (dk_at dksJ19_copyOfRange_2_1 6 rfl rfl)
theorem dJ19_copyOfRange_2_31 : decode cJ19_copyOfRange_2 31 = .ok (.iload_n 2, 1) := dk_28 (dk_at dksJ19_copyOfRange_2_1 9 rfl rfl)
theorem dJ19_copyOfRange_2_32 : decode cJ19_copyOfRange_2 32 = .ok (.invokevirtual 54, 3) := dk_182 0 54 (dk_at dksJ19_copyOfRange_2_1 10 rfl rfl)
theorem dJ19_copyOfRange_2_35 : decode cJ19_copyOfRange_2 35 = .ok (.invokevirtual 61, 3) := dk_182 0 61 (dk_at dksJ19_copyOfRange_2_1 13 rfl rfl)
theorem dJ19_copyOfRange_2_38 : decode cJ19_copyOfRange_2 38 = .ok (.invokespecial 65, 3) := dk_183 0 65 (dk_at dksJ19_copyOfRange_2_1 16 rfl rfl)
theorem dJ19_copyOfRange_2_41 : decode cJ19_copyOfRange_2 41 = .ok (.athrow, 1) := dk_191 (dk_at dksJ19_copyOfRange_2_1 19 rfl rfl)
theorem dJ19_copyOfRange_2_42 : decode cJ19_copyOfRange_2 42 = .ok (.aload_n 3, 1) := dk_45 (dk_at dksJ19_copyOfRange_2_1 20 rfl rfl)
theorem dJ19_copyOfRange_2_43 : decode cJ19_copyOfRange_2 43 = .ok (.ldc 110, 2) := dk_18 110 (dk_at dksJ19_copyOfRange_2_1 21 rfl rfl)
theorem dJ19_copyOfRange_2_45 : decode cJ19_copyOfRange_2 45 = .ok (.if_acmp .ne 11, 3) := dk_166 0 11 (dk_at dksJ19_copyOfRange_2_2 0 rfl rfl)
theorem dJ19_copyOfRange_2_48 : decode cJ19_copyOfRange_2 48 = .ok (.iload 4, 2) := dk_21 4 (dk_at dksJ19_copyOfRange_2_2 3 rfl rfl)
theorem dJ19_copyOfRange_2_50 : decode cJ19_copyOfRange_2 50 = .ok (.anewarray 2, 3) := dk_189 0 2 (dk_at dksJ19_copyOfRange_2_2 5 rfl rfl)
theorem dJ19_copyOfRange_2_53 : decode cJ19_copyOfRange_2 53 = .ok (.goto 15, 3) := dk_167 0 15 (dk_at dksJ19_copyOfRange_2_2 8 rfl rfl)
theorem dJ19_copyOfRange_2_56 : decode cJ19_copyOfRange_2 56 = .ok (.aload_n 3, 1) := dk_45 (dk_at dksJ19_copyOfRange_2_2 11 rfl rfl)
theorem dJ19_copyOfRange_2_57 : decode cJ19_copyOfRange_2 57 = .ok (.invokevirtual 90, 3) := dk_182 0 90 (dk_at dksJ19_copyOfRange_2_2 12 rfl rfl)
theorem dJ19_copyOfRange_2_60 : decode cJ19_copyOfRange_2 60 = .ok (.iload 4, 2) := dk_21 4 (dk_at dksJ19_copyOfRange_2_2 15 rfl rfl)
theorem dJ19_copyOfRange_2_62 : decode cJ19_copyOfRange_2 62 = .ok (.invokestatic 95, 3) := dk_184 0 95 (dk_at dksJ19_copyOfRange_2_2 17 rfl rfl)
theorem dJ19_copyOfRange_2_65 : decode cJ19_copyOfRange_2 65 = .ok (.checkcast 110, 3) := dk_192 0 110 (dk_at dksJ19_copyOfRange_2_2 20 rfl rfl)
theorem dJ19_copyOfRange_2_68 : decode cJ19_copyOfRange_2 68 = .ok (.astore 5, 2) := dk_58 5 (dk_at dksJ19_copyOfRange_2_3 0 rfl rfl)
theorem dJ19_copyOfRange_2_70 : decode cJ19_copyOfRange_2 70 = .ok (.aload_n 0, 1) := dk_42 (dk_at dksJ19_copyOfRange_2_3 2 rfl rfl)
theorem dJ19_copyOfRange_2_71 : decode cJ19_copyOfRange_2 71 = .ok (.iload_n 1, 1) := dk_27 (dk_at dksJ19_copyOfRange_2_3 3 rfl rfl)
theorem dJ19_copyOfRange_2_72 : decode cJ19_copyOfRange_2 72 = .ok (.aload 5, 2) := dk_25 5 (dk_at dksJ19_copyOfRange_2_3 4 rfl rfl)
theorem dJ19_copyOfRange_2_74 : decode cJ19_copyOfRange_2 74 = .ok (.iconst 0, 1) := dk_3 (dk_at dksJ19_copyOfRange_2_3 6 rfl rfl)
theorem dJ19_copyOfRange_2_75 : decode cJ19_copyOfRange_2 75 = .ok (.aload_n 0, 1) := dk_42 (dk_at dksJ19_copyOfRange_2_3 7 rfl rfl)
theorem dJ19_copyOfRange_2_76 : decode cJ19_copyOfRange_2 76 = .ok (.arraylength, 1) := dk_190 (dk_at dksJ19_copyOfRange_2_3 8 rfl rfl)
theorem dJ19_copyOfRange_2_77 : decode cJ19_copyOfRange_2 77 = .ok (.iload_n 1, 1) := dk_27 (dk_at dksJ19_copyOfRange_2_3 9 rfl rfl)
theorem dJ19_copyOfRange_2_78 : decode cJ19_copyOfRange_2 78 = .ok (.isub, 1) := dk_100 (dk_at dksJ19_copyOfRange_2_3 10 rfl rfl)
theorem dJ19_copyOfRange_2_79 : decode cJ19_copyOfRange_2 79 = .ok (.iload 4, 2) := dk_21 4 (dk_at dksJ19_copyOfRange_2_3 11 rfl rfl)
theorem dJ19_copyOfRange_2_81 : decode cJ19_copyOfRange_2 81 = .ok (.invokestatic 304, 3) := dk_184 1 48 (dk_at dksJ19_copyOfRange_2_3 13 rfl rfl)
theorem dJ19_copyOfRange_2_84 : decode cJ19_copyOfRange_2 84 = .ok (.invokestatic 150, 3) := dk_184 0 150 (dk_at dksJ19_copyOfRange_2_3 16 rfl rfl)
theorem dJ19_copyOfRange_2_87 : decode cJ19_copyOfRange_2 87 = .ok (.aload 5, 2) := dk_25 5 (dk_at dksJ19_copyOfRange_2_3 19 rfl rfl)
theorem dJ19_copyOfRange_2_89 : decode cJ19_copyOfRange_2 89 = .ok (.areturn, 1) := dk_176 (dk_at dksJ19_copyOfRange_2_3 21 rfl rfl)
theorem q122 : (Jvm.Cond.initialized "java/util/Arrays") ∈ lw_all := lw_g (lw_at lw_m1 26 rfl) rfl
theorem q673 : (Jvm.Cond.static ({ cls := "java/util/Arrays", name := "copyOf", desc := "([BI)[B" } : Jvm.MethodName)) ∈ lw_all := lw_g (lw_at lw_m3 97 rfl) rfl
theorem q674 : (Jvm.Cond.code ({ cls := "java/util/Arrays", name := "copyOf", desc := "([BI)[B" } : Jvm.MethodName) prog_65_method_121_code (3 : Nat) (Option.some (Jvm.ClassFile.FieldType.array Jvm.ClassFile.FieldType.byte))) ∈ lw_all := lw_g (lw_at lw_m3 98 rfl) rfl
theorem q675 : (Jvm.Cond.methodLink "java/util/Arrays" (310 : Nat) ({ cls := "[B", name := "clone", desc := "()Ljava/lang/Object;" } : Jvm.MethodName)) ∈ lw_all := lw_g (lw_at lw_m3 99 rfl) rfl
theorem q681 : (Jvm.Cond.classLink "java/util/Arrays" (311 : Nat) "[B") ∈ lw_all := lw_g (lw_at lw_m3 105 rfl) rfl
theorem q682 : (Jvm.Cond.methodLink "java/util/Arrays" (304 : Nat) ({ cls := "java/lang/Math", name := "min", desc := "(II)I" } : Jvm.MethodName)) ∈ lw_all := lw_g (lw_at lw_m3 106 rfl) rfl
theorem q685 : (Jvm.Cond.methodLink "java/util/Arrays" (150 : Nat) ({ cls := "java/lang/System", name := "arraycopy", desc := "(Ljava/lang/Object;ILjava/lang/Object;II)V" } : Jvm.MethodName)) ∈ lw_all := lw_g (lw_at lw_m3 109 rfl) rfl
theorem q813 : (Jvm.Cond.static ({ cls := "java/util/Arrays", name := "copyOfRange", desc := "([BII)[B" } : Jvm.MethodName)) ∈ lw_all := lw_g (lw_at lw_m3 237 rfl) rfl
theorem q814 : (Jvm.Cond.code ({ cls := "java/util/Arrays", name := "copyOfRange", desc := "([BII)[B" } : Jvm.MethodName) prog_65_method_132_code (3 : Nat) (Option.some (Jvm.ClassFile.FieldType.array Jvm.ClassFile.FieldType.byte))) ∈ lw_all := lw_g (lw_at lw_m3 238 rfl) rfl
theorem q815 : (Jvm.Cond.methodLink "java/util/Arrays" (339 : Nat) ({ cls := "java/util/Arrays", name := "copyOfRangeByte", desc := "([BII)[B" } : Jvm.MethodName)) ∈ lw_all := lw_g (lw_at lw_m3 239 rfl) rfl
theorem q816 : (Jvm.Cond.static ({ cls := "java/util/Arrays", name := "copyOfRangeByte", desc := "([BII)[B" } : Jvm.MethodName)) ∈ lw_all := lw_g (lw_at lw_m4 0 rfl) rfl
theorem q817 : (Jvm.Cond.code ({ cls := "java/util/Arrays", name := "copyOfRangeByte", desc := "([BII)[B" } : Jvm.MethodName) prog_65_method_133_code (5 : Nat) (Option.some (Jvm.ClassFile.FieldType.array Jvm.ClassFile.FieldType.byte))) ∈ lw_all := lw_g (lw_at lw_m4 1 rfl) rfl
theorem q818 : (Jvm.Cond.methodLink "java/util/Arrays" (343 : Nat) ({ cls := "java/util/Arrays", name := "checkLength", desc := "(II)V" } : Jvm.MethodName)) ∈ lw_all := lw_g (lw_at lw_m4 2 rfl) rfl
theorem q819 : (Jvm.Cond.static ({ cls := "java/util/Arrays", name := "checkLength", desc := "(II)V" } : Jvm.MethodName)) ∈ lw_all := lw_g (lw_at lw_m4 3 rfl) rfl
theorem q820 : (Jvm.Cond.code ({ cls := "java/util/Arrays", name := "checkLength", desc := "(II)V" } : Jvm.MethodName) prog_65_method_131_code (2 : Nat) (Option.none : Option Jvm.ClassFile.FieldType)) ∈ lw_all := lw_g (lw_at lw_m4 4 rfl) rfl
theorem q1057 : (Jvm.Cond.static ({ cls := "java/util/Arrays", name := "copyOf", desc := "([Ljava/lang/Object;I)[Ljava/lang/Object;" } : Jvm.MethodName)) ∈ lw_all := lw_g (lw_at lw_m5 1 rfl) rfl
theorem q1058 : (Jvm.Cond.code ({ cls := "java/util/Arrays", name := "copyOf", desc := "([Ljava/lang/Object;I)[Ljava/lang/Object;" } : Jvm.MethodName) prog_65_method_119_code (2 : Nat) (Option.some (Jvm.ClassFile.FieldType.array (Jvm.ClassFile.FieldType.object "java/lang/Object")))) ∈ lw_all := lw_g (lw_at lw_m5 2 rfl) rfl
theorem q1059 : (Jvm.Cond.methodLink "java/util/Arrays" (86 : Nat) ({ cls := "java/lang/Object", name := "getClass", desc := "()Ljava/lang/Class;" } : Jvm.MethodName)) ∈ lw_all := lw_g (lw_at lw_m5 3 rfl) rfl
theorem q1105 : (Jvm.Cond.methodLink "java/util/Arrays" (300 : Nat) ({ cls := "java/util/Arrays", name := "copyOf", desc := "([Ljava/lang/Object;ILjava/lang/Class;)[Ljava/lang/Object;" } : Jvm.MethodName)) ∈ lw_all := lw_g (lw_at lw_m5 49 rfl) rfl
theorem q1106 : (Jvm.Cond.static ({ cls := "java/util/Arrays", name := "copyOf", desc := "([Ljava/lang/Object;ILjava/lang/Class;)[Ljava/lang/Object;" } : Jvm.MethodName)) ∈ lw_all := lw_g (lw_at lw_m5 50 rfl) rfl
theorem q1107 : (Jvm.Cond.code ({ cls := "java/util/Arrays", name := "copyOf", desc := "([Ljava/lang/Object;ILjava/lang/Class;)[Ljava/lang/Object;" } : Jvm.MethodName) prog_65_method_120_code (4 : Nat) (Option.some (Jvm.ClassFile.FieldType.array (Jvm.ClassFile.FieldType.object "java/lang/Object")))) ∈ lw_all := lw_g (lw_at lw_m5 51 rfl) rfl
theorem q1108 : (Jvm.Cond.classLink "java/util/Arrays" (110 : Nat) "[Ljava/lang/Object;") ∈ lw_all := lw_g (lw_at lw_m5 52 rfl) rfl
theorem q1110 : (Jvm.Cond.classLink "java/util/Arrays" (2 : Nat) "java/lang/Object") ∈ lw_all := lw_g (lw_at lw_m5 54 rfl) rfl
theorem q2719 : (Jvm.Cond.static ({ cls := "java/util/Arrays", name := "copyOfRange", desc := "([Ljava/lang/Object;IILjava/lang/Class;)[Ljava/lang/Object;" } : Jvm.MethodName)) ∈ lw_all := lw_g (lw_at lw_m11 223 rfl) rfl
theorem q2720 : (Jvm.Cond.code ({ cls := "java/util/Arrays", name := "copyOfRange", desc := "([Ljava/lang/Object;IILjava/lang/Class;)[Ljava/lang/Object;" } : Jvm.MethodName) prog_65_method_130_code (6 : Nat) (Option.some (Jvm.ClassFile.FieldType.array (Jvm.ClassFile.FieldType.object "java/lang/Object")))) ∈ lw_all := lw_g (lw_at lw_m11 224 rfl) rfl

/-! jdk/internal/util/Preconditions -/
set_option maxRecDepth 100000
def RJ20 : String := "jdk/internal/util/Preconditions"
abbrev cJ20_checkFromToIndex : ByteArray := prog_86_method_12_code
def yJ20_checkFromToIndex : MethodName := ⟨RJ20, "checkFromToIndex", "(IIILjava/util/function/BiFunction;)I"⟩
def dkwJ20_checkFromToIndex_0 : List UInt8 := [26, 155, 0, 13, 26, 27, 163, 0, 8, 27, 28, 164, 0, 11, 45, 26, 27, 28, 184, 0, 99, 191, 26, 172]
abbrev dktJ20_checkFromToIndex_0 : List UInt8 := dkwJ20_checkFromToIndex_0 ++ []
theorem dksJ20_checkFromToIndex_0 : cJ20_checkFromToIndex.data.toList.drop 0 = dktJ20_checkFromToIndex_0 := by decide +kernel
theorem dJ20_checkFromToIndex_0 : decode cJ20_checkFromToIndex 0 = .ok (.iload_n 0, 1) := dk_26 (dk_at dksJ20_checkFromToIndex_0 0 rfl rfl)
theorem dJ20_checkFromToIndex_1 : decode cJ20_checkFromToIndex 1 = .ok (.ifCond .lt 13, 3) := dk_155 0 13 (dk_at dksJ20_checkFromToIndex_0 1 rfl rfl)
theorem dJ20_checkFromToIndex_4 : decode cJ20_checkFromToIndex 4 = .ok (.iload_n 0, 1) := dk_26 (dk_at dksJ20_checkFromToIndex_0 4 rfl rfl)
theorem dJ20_checkFromToIndex_5 : decode cJ20_checkFromToIndex 5 = .ok (.iload_n 1, 1) := dk_27 (dk_at dksJ20_checkFromToIndex_0 5 rfl rfl)
theorem dJ20_checkFromToIndex_6 : decode cJ20_checkFromToIndex 6 = .ok (.if_icmp .gt 8, 3) := dk_163 0 8 (dk_at dksJ20_checkFromToIndex_0 6 rfl rfl)
theorem dJ20_checkFromToIndex_9 : decode cJ20_checkFromToIndex 9 = .ok (.iload_n 1, 1) := dk_27 (dk_at dksJ20_checkFromToIndex_0 9 rfl rfl)
theorem dJ20_checkFromToIndex_10 : decode cJ20_checkFromToIndex 10 = .ok (.iload_n 2, 1) := dk_28 (dk_at dksJ20_checkFromToIndex_0 10 rfl rfl)
theorem dJ20_checkFromToIndex_11 : decode cJ20_checkFromToIndex 11 = .ok (.if_icmp .le 11, 3) := dk_164 0 11 (dk_at dksJ20_checkFromToIndex_0 11 rfl rfl)
theorem dJ20_checkFromToIndex_14 : decode cJ20_checkFromToIndex 14 = .ok (.aload_n 3, 1) := dk_45 (dk_at dksJ20_checkFromToIndex_0 14 rfl rfl)
theorem dJ20_checkFromToIndex_15 : decode cJ20_checkFromToIndex 15 = .ok (.iload_n 0, 1) := dk_26 (dk_at dksJ20_checkFromToIndex_0 15 rfl rfl)
theorem dJ20_checkFromToIndex_16 : decode cJ20_checkFromToIndex 16 = .ok (.iload_n 1, 1) := dk_27 (dk_at dksJ20_checkFromToIndex_0 16 rfl rfl)
theorem dJ20_checkFromToIndex_17 : decode cJ20_checkFromToIndex 17 = .ok (.iload_n 2, 1) := dk_28 (dk_at dksJ20_checkFromToIndex_0 17 rfl rfl)
theorem dJ20_checkFromToIndex_18 : decode cJ20_checkFromToIndex 18 = .ok (.invokestatic 99, 3) := dk_184 0 99 (dk_at dksJ20_checkFromToIndex_0 18 rfl rfl)
theorem dJ20_checkFromToIndex_21 : decode cJ20_checkFromToIndex 21 = .ok (.athrow, 1) := dk_191 (dk_at dksJ20_checkFromToIndex_0 21 rfl rfl)
theorem dJ20_checkFromToIndex_22 : decode cJ20_checkFromToIndex 22 = .ok (.iload_n 0, 1) := dk_26 (dk_at dksJ20_checkFromToIndex_0 22 rfl rfl)
theorem dJ20_checkFromToIndex_23 : decode cJ20_checkFromToIndex 23 = .ok (.ireturn, 1) := dk_172 (dk_at dksJ20_checkFromToIndex_0 23 rfl rfl)
abbrev cJ20_checkFromIndexSize : ByteArray := prog_86_method_13_code
def yJ20_checkFromIndexSize : MethodName := ⟨RJ20, "checkFromIndexSize", "(IIILjava/util/function/BiFunction;)I"⟩
def dkwJ20_checkFromIndexSize_1 : List UInt8 := [172]
abbrev dktJ20_checkFromIndexSize_1 : List UInt8 := dkwJ20_checkFromIndexSize_1 ++ []
def dkwJ20_checkFromIndexSize_0 : List UInt8 := [28, 26, 128, 27, 128, 155, 0, 10, 27, 28, 26, 100, 164, 0, 11, 45, 26, 27, 28, 184, 0, 103, 191, 26]
abbrev dktJ20_checkFromIndexSize_0 : List UInt8 := dkwJ20_checkFromIndexSize_0 ++ dktJ20_checkFromIndexSize_1
theorem dksJ20_checkFromIndexSize_0 : cJ20_checkFromIndexSize.data.toList.drop 0 = dktJ20_checkFromIndexSize_0 := by decide +kernel
theorem dksJ20_checkFromIndexSize_1 : cJ20_checkFromIndexSize.data.toList.drop 24 = dktJ20_checkFromIndexSize_1 := dk_seg dksJ20_checkFromIndexSize_0 24 rfl rfl
theorem dJ20_checkFromIndexSize_0 : decode cJ20_checkFromIndexSize 0 = .ok (.iload_n 2, 1) := dk_28 (dk_at dksJ20_checkFromIndexSize_0 0 rfl rfl)
theorem dJ20_checkFromIndexSize_1 : decode cJ20_checkFromIndexSize 1 = .ok (.iload_n 0, 1) := dk_26 (dk_at dksJ20_checkFromIndexSize_0 1 rfl rfl)
theorem dJ20_checkFromIndexSize_2 : decode cJ20_checkFromIndexSize 2 = .ok (.ior, 1) := dk_128 (dk_at dksJ20_checkFromIndexSize_0 2 rfl rfl)
theorem dJ20_checkFromIndexSize_3 : decode cJ20_checkFromIndexSize 3 = .ok (.iload_n 1, 1) := dk_27 (dk_at dksJ20_checkFromIndexSize_0 3 rfl rfl)
theorem dJ20_checkFromIndexSize_4 : decode cJ20_checkFromIndexSize 4 = .ok (.ior, 1) := dk_128 (dk_at dksJ20_checkFromIndexSize_0 4 rfl rfl)
theorem dJ20_checkFromIndexSize_5 : decode cJ20_checkFromIndexSize 5 = .ok (.ifCond .lt 10, 3) := dk_155 0 10 (dk_at dksJ20_checkFromIndexSize_0 5 rfl rfl)
theorem dJ20_checkFromIndexSize_8 : decode cJ20_checkFromIndexSize 8 = .ok (.iload_n 1, 1) := dk_27 (dk_at dksJ20_checkFromIndexSize_0 8 rfl rfl)
theorem dJ20_checkFromIndexSize_9 : decode cJ20_checkFromIndexSize 9 = .ok (.iload_n 2, 1) := dk_28 (dk_at dksJ20_checkFromIndexSize_0 9 rfl rfl)
theorem dJ20_checkFromIndexSize_10 : decode cJ20_checkFromIndexSize 10 = .ok (.iload_n 0, 1) := dk_26 (dk_at dksJ20_checkFromIndexSize_0 10 rfl rfl)
theorem dJ20_checkFromIndexSize_11 : decode cJ20_checkFromIndexSize 11 = .ok (.isub, 1) := dk_100 (dk_at dksJ20_checkFromIndexSize_0 11 rfl rfl)
theorem dJ20_checkFromIndexSize_12 : decode cJ20_checkFromIndexSize 12 = .ok (.if_icmp .le 11, 3) := dk_164 0 11 (dk_at dksJ20_checkFromIndexSize_0 12 rfl rfl)
theorem dJ20_checkFromIndexSize_15 : decode cJ20_checkFromIndexSize 15 = .ok (.aload_n 3, 1) := dk_45 (dk_at dksJ20_checkFromIndexSize_0 15 rfl rfl)
theorem dJ20_checkFromIndexSize_16 : decode cJ20_checkFromIndexSize 16 = .ok (.iload_n 0, 1) := dk_26 (dk_at dksJ20_checkFromIndexSize_0 16 rfl rfl)
theorem dJ20_checkFromIndexSize_17 : decode cJ20_checkFromIndexSize 17 = .ok (.iload_n 1, 1) := dk_27 (dk_at dksJ20_checkFromIndexSize_0 17 rfl rfl)
theorem dJ20_checkFromIndexSize_18 : decode cJ20_checkFromIndexSize 18 = .ok (.iload_n 2, 1) := dk_28 (dk_at dksJ20_checkFromIndexSize_0 18 rfl rfl)
theorem dJ20_checkFromIndexSize_19 : decode cJ20_checkFromIndexSize 19 = .ok (.invokestatic 103, 3) := dk_184 0 103 (dk_at dksJ20_checkFromIndexSize_0 19 rfl rfl)
theorem dJ20_checkFromIndexSize_22 : decode cJ20_checkFromIndexSize 22 = .ok (.athrow, 1) := dk_191 (dk_at dksJ20_checkFromIndexSize_0 22 rfl rfl)
theorem dJ20_checkFromIndexSize_23 : decode cJ20_checkFromIndexSize 23 = .ok (.iload_n 0, 1) := dk_26 (dk_at dksJ20_checkFromIndexSize_0 23 rfl rfl)
theorem dJ20_checkFromIndexSize_24 : decode cJ20_checkFromIndexSize 24 = .ok (.ireturn, 1) := dk_172 (dk_at dksJ20_checkFromIndexSize_1 0 rfl rfl)
abbrev cJ20_checkIndex : ByteArray := prog_86_method_11_code
def yJ20_checkIndex : MethodName := ⟨RJ20, "checkIndex", "(IILjava/util/function/BiFunction;)I"⟩
def dkwJ20_checkIndex_0 : List UInt8 := [26, 155, 0, 8, 26, 27, 161, 0, 10, 44, 26, 27, 184, 0, 95, 191, 26, 172]
abbrev dktJ20_checkIndex_0 : List UInt8 := dkwJ20_checkIndex_0 ++ []
theorem dksJ20_checkIndex_0 : cJ20_checkIndex.data.toList.drop 0 = dktJ20_checkIndex_0 := by decide +kernel
theorem dJ20_checkIndex_0 : decode cJ20_checkIndex 0 = .ok (.iload_n 0, 1) := dk_26 (dk_at dksJ20_checkIndex_0 0 rfl rfl)
theorem dJ20_checkIndex_1 : decode cJ20_checkIndex 1 = .ok (.ifCond .lt 8, 3) := dk_155 0 8 (dk_at dksJ20_checkIndex_0 1 rfl rfl)
theorem dJ20_checkIndex_4 : decode cJ20_checkIndex 4 = .ok (.iload_n 0, 1) := dk_26 (dk_at dksJ20_checkIndex_0 4 rfl rfl)
theorem dJ20_checkIndex_5 : decode cJ20_checkIndex 5 = .ok (.iload_n 1, 1) := dk_27 (dk_at dksJ20_checkIndex_0 5 rfl rfl)
theorem dJ20_checkIndex_6 : decode cJ20_checkIndex 6 = .ok (.if_icmp .lt 10, 3) := dk_161 0 10 (dk_at dksJ20_checkIndex_0 6 rfl rfl)
theorem dJ20_checkIndex_9 : decode cJ20_checkIndex 9 = .ok (.aload_n 2, 1) := dk_44 (dk_at dksJ20_checkIndex_0 9 rfl rfl)
theorem dJ20_checkIndex_10 : decode cJ20_checkIndex 10 = .ok (.iload_n 0, 1) := dk_26 (dk_at dksJ20_checkIndex_0 10 rfl rfl)
theorem dJ20_checkIndex_11 : decode cJ20_checkIndex 11 = .ok (.iload_n 1, 1) := dk_27 (dk_at dksJ20_checkIndex_0 11 rfl rfl)
theorem dJ20_checkIndex_12 : decode cJ20_checkIndex 12 = .ok (.invokestatic 95, 3) := dk_184 0 95 (dk_at dksJ20_checkIndex_0 12 rfl rfl)
theorem dJ20_checkIndex_15 : decode cJ20_checkIndex 15 = .ok (.athrow, 1) := dk_191 (dk_at dksJ20_checkIndex_0 15 rfl rfl)
theorem dJ20_checkIndex_16 : decode cJ20_checkIndex 16 = .ok (.iload_n 0, 1) := dk_26 (dk_at dksJ20_checkIndex_0 16 rfl rfl)
theorem dJ20_checkIndex_17 : decode cJ20_checkIndex 17 = .ok (.ireturn, 1) := dk_172 (dk_at dksJ20_checkIndex_0 17 rfl rfl)
theorem q123 : (Jvm.Cond.initialized "jdk/internal/util/Preconditions") ∈ lw_all := lw_g (lw_at lw_m1 27 rfl) rfl
theorem q704 : (Jvm.Cond.laysStatic "jdk/internal/util/Preconditions" "SIOOBE_FORMATTER" "Ljava/util/function/BiFunction;") ∈ lw_tbl := lw_at lw_m3 128 rfl
theorem q706 : (Jvm.Cond.static ({ cls := "jdk/internal/util/Preconditions", name := "checkFromToIndex", desc := "(IIILjava/util/function/BiFunction;)I" } : Jvm.MethodName)) ∈ lw_all := lw_g (lw_at lw_m3 130 rfl) rfl
theorem q707 : (Jvm.Cond.code ({ cls := "jdk/internal/util/Preconditions", name := "checkFromToIndex", desc := "(IIILjava/util/function/BiFunction;)I" } : Jvm.MethodName) prog_86_method_12_code (4 : Nat) (Option.some Jvm.ClassFile.FieldType.int)) ∈ lw_all := lw_g (lw_at lw_m3 131 rfl) rfl
theorem q752 : (Jvm.Cond.static ({ cls := "jdk/internal/util/Preconditions", name := "checkFromIndexSize", desc := "(IIILjava/util/function/BiFunction;)I" } : Jvm.MethodName)) ∈ lw_all := lw_g (lw_at lw_m3 176 rfl) rfl
theorem q753 : (Jvm.Cond.code ({ cls := "jdk/internal/util/Preconditions", name := "checkFromIndexSize", desc := "(IIILjava/util/function/BiFunction;)I" } : Jvm.MethodName) prog_86_method_13_code (4 : Nat) (Option.some Jvm.ClassFile.FieldType.int)) ∈ lw_all := lw_g (lw_at lw_m3 177 rfl) rfl
theorem q973 : (Jvm.Cond.static ({ cls := "jdk/internal/util/Preconditions", name := "checkIndex", desc := "(IILjava/util/function/BiFunction;)I" } : Jvm.MethodName)) ∈ lw_all := lw_g (lw_at lw_m4 157 rfl) rfl
theorem q974 : (Jvm.Cond.code ({ cls := "jdk/internal/util/Preconditions", name := "checkIndex", desc := "(IILjava/util/function/BiFunction;)I" } : Jvm.MethodName) prog_86_method_11_code (3 : Nat) (Option.some Jvm.ClassFile.FieldType.int)) ∈ lw_all := lw_g (lw_at lw_m4 158 rfl) rfl

/-! java/lang/StringLatin1 -/
set_option maxRecDepth 100000
def RJ21 : String := "java/lang/StringLatin1"
abbrev cJ21_inflate : ByteArray := prog_48_method_50_code
def yJ21_inflate : MethodName := ⟨RJ21, "inflate", "([BI[BII)V"⟩
def dkwJ21_inflate_0 : List UInt8 := [42, 27, 44, 29, 21, 4, 184, 0, 240, 177]
abbrev dktJ21_inflate_0 : List UInt8 := dkwJ21_inflate_0 ++ []
theorem dksJ21_inflate_0 : cJ21_inflate.data.toList.drop 0 = dktJ21_inflate_0 := by decide +kernel
theorem dJ21_inflate_0 : decode cJ21_inflate 0 = .ok (.aload_n 0, 1) := dk_42 (dk_at dksJ21_inflate_0 0 rfl rfl)
theorem dJ21_inflate_1 : decode cJ21_inflate 1 = .ok (.iload_n 1, 1) := dk_27 (dk_at dksJ21_inflate_0 1 rfl rfl)
theorem dJ21_inflate_2 : decode cJ21_inflate 2 = .ok (.aload_n 2, 1) := dk_44 (dk_at dksJ21_inflate_0 2 rfl rfl)
theorem dJ21_inflate_3 : decode cJ21_inflate 3 = .ok (.iload_n 3, 1) := dk_29 (dk_at dksJ21_inflate_0 3 rfl rfl)
theorem dJ21_inflate_4 : decode cJ21_inflate 4 = .ok (.iload 4, 2) := dk_21 4 (dk_at dksJ21_inflate_0 4 rfl rfl)
theorem dJ21_inflate_6 : decode cJ21_inflate 6 = .ok (.invokestatic 240, 3) := dk_184 0 240 (dk_at dksJ21_inflate_0 6 rfl rfl)
theorem dJ21_inflate_9 : decode cJ21_inflate 9 = .ok (.return_, 1) := dk_177 (dk_at dksJ21_inflate_0 9 rfl rfl)
abbrev cJ21_canEncode : ByteArray := prog_48_method_3_code
def yJ21_canEncode : MethodName := ⟨RJ21, "canEncode", "(C)Z"⟩
def dkwJ21_canEncode_0 : List UInt8 := [26, 17, 0, 255, 163, 0, 7, 4, 167, 0, 4, 3, 172]
abbrev dktJ21_canEncode_0 : List UInt8 := dkwJ21_canEncode_0 ++ []
theorem dksJ21_canEncode_0 : cJ21_canEncode.data.toList.drop 0 = dktJ21_canEncode_0 := by decide +kernel
theorem dJ21_canEncode_0 : decode cJ21_canEncode 0 = .ok (.iload_n 0, 1) := dk_26 (dk_at dksJ21_canEncode_0 0 rfl rfl)
theorem dJ21_canEncode_1 : decode cJ21_canEncode 1 = .ok (.sipush 255, 3) := dk_17 0 255 (dk_at dksJ21_canEncode_0 1 rfl rfl)
theorem dJ21_canEncode_4 : decode cJ21_canEncode 4 = .ok (.if_icmp .gt 7, 3) := dk_163 0 7 (dk_at dksJ21_canEncode_0 4 rfl rfl)
theorem dJ21_canEncode_7 : decode cJ21_canEncode 7 = .ok (.iconst 1, 1) := dk_4 (dk_at dksJ21_canEncode_0 7 rfl rfl)
theorem dJ21_canEncode_8 : decode cJ21_canEncode 8 = .ok (.goto 4, 3) := dk_167 0 4 (dk_at dksJ21_canEncode_0 8 rfl rfl)
theorem dJ21_canEncode_11 : decode cJ21_canEncode 11 = .ok (.iconst 0, 1) := dk_3 (dk_at dksJ21_canEncode_0 11 rfl rfl)
theorem dJ21_canEncode_12 : decode cJ21_canEncode 12 = .ok (.ireturn, 1) := dk_172 (dk_at dksJ21_canEncode_0 12 rfl rfl)
abbrev cJ21_equals : ByteArray := prog_48_method_13_code
def yJ21_equals : MethodName := ⟨RJ21, "equals", "([B[B)Z"⟩
def dkwJ21_equals_1 : List UInt8 := [3, 172, 132, 2, 1, 167, 255, 236, 4, 172, 3, 172]
abbrev dktJ21_equals_1 : List UInt8 := dkwJ21_equals_1 ++ []
def dkwJ21_equals_0 : List UInt8 := [42, 190, 43, 190, 160, 0, 30, 3, 61, 28, 42, 190, 162, 0, 20, 42, 28, 51, 43, 28, 51, 159, 0, 5]
abbrev dktJ21_equals_0 : List UInt8 := dkwJ21_equals_0 ++ dktJ21_equals_1
theorem dksJ21_equals_0 : cJ21_equals.data.toList.drop 0 = dktJ21_equals_0 := by decide +kernel
theorem dksJ21_equals_1 : cJ21_equals.data.toList.drop 24 = dktJ21_equals_1 := dk_seg dksJ21_equals_0 24 rfl rfl
theorem dJ21_equals_0 : decode cJ21_equals 0 = .ok (.aload_n 0, 1) := dk_42 (dk_at dksJ21_equals_0 0 rfl rfl)
theorem dJ21_equals_1 : decode cJ21_equals 1 = .ok (.arraylength, 1) := dk_190 (dk_at dksJ21_equals_0 1 rfl rfl)
theorem dJ21_equals_2 : decode cJ21_equals 2 = .ok (.aload_n 1, 1) := dk_43 (dk_at dksJ21_equals_0 2 rfl rfl)
theorem dJ21_equals_3 : decode cJ21_equals 3 = .ok (.arraylength, 1) := dk_190 (dk_at dksJ21_equals_0 3 rfl rfl)
theorem dJ21_equals_4 : decode cJ21_equals 4 = .ok (.if_icmp .ne 30, 3) := dk_160 0 30 (dk_at dksJ21_equals_0 4 rfl rfl)
theorem dJ21_equals_7 : decode cJ21_equals 7 = .ok (.iconst 0, 1) := dk_3 (dk_at dksJ21_equals_0 7 rfl rfl)
theorem dJ21_equals_8 : decode cJ21_equals 8 = .ok (.istore_n 2, 1) := dk_61 (dk_at dksJ21_equals_0 8 rfl rfl)
theorem dJ21_equals_9 : decode cJ21_equals 9 = .ok (.iload_n 2, 1) := dk_28 (dk_at dksJ21_equals_0 9 rfl rfl)
theorem dJ21_equals_10 : decode cJ21_equals 10 = .ok (.aload_n 0, 1) := dk_42 (dk_at dksJ21_equals_0 10 rfl rfl)
theorem dJ21_equals_11 : decode cJ21_equals 11 = .ok (.arraylength, 1) := dk_190 (dk_at dksJ21_equals_0 11 rfl rfl)
theorem dJ21_equals_12 : decode cJ21_equals 12 = .ok (.if_icmp .ge 20, 3) := dk_162 0 20 (dk_at dksJ21_equals_0 12 rfl rfl)
theorem dJ21_equals_15 : decode cJ21_equals 15 = .ok (.aload_n 0, 1) := dk_42 (dk_at dksJ21_equals_0 15 rfl rfl)
theorem dJ21_equals_16 : decode cJ21_equals 16 = .ok (.iload_n 2, 1) := dk_28 (dk_at dksJ21_equals_0 16 rfl rfl)
theorem dJ21_equals_17 : decode cJ21_equals 17 = .ok (.baload, 1) := dk_51 (dk_at dksJ21_equals_0 17 rfl rfl)
theorem dJ21_equals_18 : decode cJ21_equals 18 = .ok (.aload_n 1, 1) := dk_43 (dk_at dksJ21_equals_0 18 rfl rfl)
theorem dJ21_equals_19 : decode cJ21_equals 19 = .ok (.iload_n 2, 1) := dk_28 (dk_at dksJ21_equals_0 19 rfl rfl)
theorem dJ21_equals_20 : decode cJ21_equals 20 = .ok (.baload, 1) := dk_51 (dk_at dksJ21_equals_0 20 rfl rfl)
theorem dJ21_equals_21 : decode cJ21_equals 21 = .ok (.if_icmp .eq 5, 3) := dk_159 0 5 (dk_at dksJ21_equals_0 21 rfl rfl)
theorem dJ21_equals_24 : decode cJ21_equals 24 = .ok (.iconst 0, 1) := dk_3 (dk_at dksJ21_equals_1 0 rfl rfl)
theorem dJ21_equals_25 : decode cJ21_equals 25 = .ok (.ireturn, 1) := dk_172 (dk_at dksJ21_equals_1 1 rfl rfl)
theorem dJ21_equals_26 : decode cJ21_equals 26 = .ok (.iinc 2 1, 3) := dk_132 2 1 (dk_at dksJ21_equals_1 2 rfl rfl)
theorem dJ21_equals_29 : decode cJ21_equals 29 = .ok (.goto (-20), 3) := dk_167 255 236 (dk_at dksJ21_equals_1 5 rfl rfl)
theorem dJ21_equals_32 : decode cJ21_equals 32 = .ok (.iconst 1, 1) := dk_4 (dk_at dksJ21_equals_1 8 rfl rfl)
theorem dJ21_equals_33 : decode cJ21_equals 33 = .ok (.ireturn, 1) := dk_172 (dk_at dksJ21_equals_1 9 rfl rfl)
theorem dJ21_equals_34 : decode cJ21_equals 34 = .ok (.iconst 0, 1) := dk_3 (dk_at dksJ21_equals_1 10 rfl rfl)
theorem dJ21_equals_35 : decode cJ21_equals 35 = .ok (.ireturn, 1) := dk_172 (dk_at dksJ21_equals_1 11 rfl rfl)
abbrev cJ21_compareTo : ByteArray := prog_48_method_14_code
def yJ21_compareTo : MethodName := ⟨RJ21, "compareTo", "([B[B)I"⟩
def dkwJ21_compareTo_0 : List UInt8 := [42, 190, 61, 43, 190, 62, 42, 43, 28, 29, 184, 0, 34, 172]
abbrev dktJ21_compareTo_0 : List UInt8 := dkwJ21_compareTo_0 ++ []
theorem dksJ21_compareTo_0 : cJ21_compareTo.data.toList.drop 0 = dktJ21_compareTo_0 := by decide +kernel
theorem dJ21_compareTo_0 : decode cJ21_compareTo 0 = .ok (.aload_n 0, 1) := dk_42 (dk_at dksJ21_compareTo_0 0 rfl rfl)
theorem dJ21_compareTo_1 : decode cJ21_compareTo 1 = .ok (.arraylength, 1) := dk_190 (dk_at dksJ21_compareTo_0 1 rfl rfl)
theorem dJ21_compareTo_2 : decode cJ21_compareTo 2 = .ok (.istore_n 2, 1) := dk_61 (dk_at dksJ21_compareTo_0 2 rfl rfl)
theorem dJ21_compareTo_3 : decode cJ21_compareTo 3 = .ok (.aload_n 1, 1) := dk_43 (dk_at dksJ21_compareTo_0 3 rfl rfl)
theorem dJ21_compareTo_4 : decode cJ21_compareTo 4 = .ok (.arraylength, 1) := dk_190 (dk_at dksJ21_compareTo_0 4 rfl rfl)
theorem dJ21_compareTo_5 : decode cJ21_compareTo 5 = .ok (.istore_n 3, 1) := dk_62 (dk_at dksJ21_compareTo_0 5 rfl rfl)
theorem dJ21_compareTo_6 : decode cJ21_compareTo 6 = .ok (.aload_n 0, 1) := dk_42 (dk_at dksJ21_compareTo_0 6 rfl rfl)
theorem dJ21_compareTo_7 : decode cJ21_compareTo 7 = .ok (.aload_n 1, 1) := dk_43 (dk_at dksJ21_compareTo_0 7 rfl rfl)
theorem dJ21_compareTo_8 : decode cJ21_compareTo 8 = .ok (.iload_n 2, 1) := dk_28 (dk_at dksJ21_compareTo_0 8 rfl rfl)
theorem dJ21_compareTo_9 : decode cJ21_compareTo 9 = .ok (.iload_n 3, 1) := dk_29 (dk_at dksJ21_compareTo_0 9 rfl rfl)
theorem dJ21_compareTo_10 : decode cJ21_compareTo 10 = .ok (.invokestatic 34, 3) := dk_184 0 34 (dk_at dksJ21_compareTo_0 10 rfl rfl)
theorem dJ21_compareTo_13 : decode cJ21_compareTo 13 = .ok (.ireturn, 1) := dk_172 (dk_at dksJ21_compareTo_0 13 rfl rfl)
abbrev cJ21_compareTo_2 : ByteArray := prog_48_method_15_code
def yJ21_compareTo_2 : MethodName := ⟨RJ21, "compareTo", "([B[BII)I"⟩
def dkwJ21_compareTo_2_1 : List UInt8 := [167, 0, 16, 42, 21, 5, 184, 0, 50, 43, 21, 5, 184, 0, 50, 100, 172]
abbrev dktJ21_compareTo_2_1 : List UInt8 := dkwJ21_compareTo_2_1 ++ []
def dkwJ21_compareTo_2_0 : List UInt8 := [28, 29, 184, 0, 38, 54, 4, 42, 43, 21, 4, 184, 0, 44, 54, 5, 21, 5, 156, 0, 9, 28, 29, 100]
abbrev dktJ21_compareTo_2_0 : List UInt8 := dkwJ21_compareTo_2_0 ++ dktJ21_compareTo_2_1
theorem dksJ21_compareTo_2_0 : cJ21_compareTo_2.data.toList.drop 0 = dktJ21_compareTo_2_0 := by decide +kernel
theorem dksJ21_compareTo_2_1 : cJ21_compareTo_2.data.toList.drop 24 = dktJ21_compareTo_2_1 := dk_seg dksJ21_compareTo_2_0 24 rfl rfl
theorem dJ21_compareTo_2_0 : decode cJ21_compareTo_2 0 = .ok (.iload_n 2, 1) := dk_28 (dk_at dksJ21_compareTo_2_0 0 rfl rfl)
theorem dJ21_compareTo_2_1 : decode cJ21_compareTo_2 1 = .ok (.iload_n 3, 1) := dk_29 (dk_at dksJ21_compareTo_2_0 1 rfl rfl)
theorem dJ21_compareTo_2_2 : decode cJ21_compareTo_2 2 = .ok (.invokestatic 38, 3) := dk_184 0 38 (dk_at dksJ21_compareTo_2_0 2 rfl rfl)
theorem dJ21_compareTo_2_5 : decode cJ21_compareTo_2 5 = .ok (.istore 4, 2) := dk_54 4 (dk_at dksJ21_compareTo_2_0 5 rfl rfl)
theorem dJ21_compareTo_2_7 : decode cJ21_compareTo_2 7 = .ok (.aload_n 0, 1) := dk_42 (dk_at dksJ21_compareTo_2_0 7 rfl rfl)
theorem dJ21_compareTo_2_8 : decode cJ21_compareTo_2 8 = .ok (.aload_n 1, 1) := dk_43 (dk_at dksJ21_compareTo_2_0 8 rfl rfl)
theorem dJ21_compareTo_2_9 : decode cJ21_compareTo_2 9 = .ok (.iload 4, 2) := dk_21 4 (dk_at dksJ21_compareTo_2_0 9 rfl rfl)
theorem dJ21_compareTo_2_11 : decode cJ21_compareTo_2 11 = .ok (.invokestatic 44, 3) := dk_184 0 44 (dk_at dksJ21_compareTo_2_0 11 rfl rfl)
theorem dJ21_compareTo_2_14 : decode cJ21_compareTo_2 14 = .ok (.istore 5, 2) := dk_54 5 (dk_at dksJ21_compareTo_2_0 14 rfl rfl)
theorem dJ21_compareTo_2_16 : decode cJ21_compareTo_2 16 = .ok (.iload 5, 2) := dk_21 5 (dk_at dksJ21_compareTo_2_0 16 rfl rfl)
theorem dJ21_compareTo_2_18 : decode cJ21_compareTo_2 18 = .ok (.ifCond .ge 9, 3) := dk_156 0 9 (dk_at dksJ21_compareTo_2_0 18 rfl rfl)
theorem dJ21_compareTo_2_21 : decode cJ21_compareTo_2 21 = .ok (.iload_n 2, 1) := dk_28 (dk_at dksJ21_compareTo_2_0 21 rfl rfl)
theorem dJ21_compareTo_2_22 : decode cJ21_compareTo_2 22 = .ok (.iload_n 3, 1) := dk_29 (dk_at dksJ21_compareTo_2_0 22 rfl rfl)
theorem dJ21_compareTo_2_23 : decode cJ21_compareTo_2 23 = .ok (.isub, 1) := dk_100 (dk_at dksJ21_compareTo_2_0 23 rfl rfl)
theorem dJ21_compareTo_2_24 : decode cJ21_compareTo_2 24 = .ok (.goto 16, 3) := dk_167 0 16 (dk_at dksJ21_compareTo_2_1 0 rfl rfl)
theorem dJ21_compareTo_2_27 : decode cJ21_compareTo_2 27 = .ok (.aload_n 0, 1) := dk_42 (dk_at dksJ21_compareTo_2_1 3 rfl rfl)
theorem dJ21_compareTo_2_28 : decode cJ21_compareTo_2 28 = .ok (.iload 5, 2) := dk_21 5 (dk_at dksJ21_compareTo_2_1 4 rfl rfl)
theorem dJ21_compareTo_2_30 : decode cJ21_compareTo_2 30 = .ok (.invokestatic 50, 3) := dk_184 0 50 (dk_at dksJ21_compareTo_2_1 6 rfl rfl)
theorem dJ21_compareTo_2_33 : decode cJ21_compareTo_2 33 = .ok (.aload_n 1, 1) := dk_43 (dk_at dksJ21_compareTo_2_1 9 rfl rfl)
theorem dJ21_compareTo_2_34 : decode cJ21_compareTo_2 34 = .ok (.iload 5, 2) := dk_21 5 (dk_at dksJ21_compareTo_2_1 10 rfl rfl)
theorem dJ21_compareTo_2_36 : decode cJ21_compareTo_2 36 = .ok (.invokestatic 50, 3) := dk_184 0 50 (dk_at dksJ21_compareTo_2_1 12 rfl rfl)
theorem dJ21_compareTo_2_39 : decode cJ21_compareTo_2 39 = .ok (.isub, 1) := dk_100 (dk_at dksJ21_compareTo_2_1 15 rfl rfl)
theorem dJ21_compareTo_2_40 : decode cJ21_compareTo_2 40 = .ok (.ireturn, 1) := dk_172 (dk_at dksJ21_compareTo_2_1 16 rfl rfl)
abbrev cJ21_getChar : ByteArray := prog_48_method_44_code
def yJ21_getChar : MethodName := ⟨RJ21, "getChar", "([BI)C"⟩
def dkwJ21_getChar_0 : List UInt8 := [42, 27, 51, 17, 0, 255, 126, 146, 172]
abbrev dktJ21_getChar_0 : List UInt8 := dkwJ21_getChar_0 ++ []
theorem dksJ21_getChar_0 : cJ21_getChar.data.toList.drop 0 = dktJ21_getChar_0 := by decide +kernel
theorem dJ21_getChar_0 : decode cJ21_getChar 0 = .ok (.aload_n 0, 1) := dk_42 (dk_at dksJ21_getChar_0 0 rfl rfl)
theorem dJ21_getChar_1 : decode cJ21_getChar 1 = .ok (.iload_n 1, 1) := dk_27 (dk_at dksJ21_getChar_0 1 rfl rfl)
theorem dJ21_getChar_2 : decode cJ21_getChar 2 = .ok (.baload, 1) := dk_51 (dk_at dksJ21_getChar_0 2 rfl rfl)
theorem dJ21_getChar_3 : decode cJ21_getChar 3 = .ok (.sipush 255, 3) := dk_17 0 255 (dk_at dksJ21_getChar_0 3 rfl rfl)
theorem dJ21_getChar_6 : decode cJ21_getChar 6 = .ok (.iand, 1) := dk_126 (dk_at dksJ21_getChar_0 6 rfl rfl)
theorem dJ21_getChar_7 : decode cJ21_getChar 7 = .ok (.i2c, 1) := dk_146 (dk_at dksJ21_getChar_0 7 rfl rfl)
theorem dJ21_getChar_8 : decode cJ21_getChar 8 = .ok (.ireturn, 1) := dk_172 (dk_at dksJ21_getChar_0 8 rfl rfl)
abbrev cJ21_compareToUTF16 : ByteArray := prog_48_method_16_code
def yJ21_compareToUTF16 : MethodName := ⟨RJ21, "compareToUTF16", "([B[B)I"⟩
def dkwJ21_compareToUTF16_0 : List UInt8 := [42, 184, 0, 54, 61, 43, 184, 0, 58, 62, 42, 43, 28, 29, 184, 0, 59, 172]
abbrev dktJ21_compareToUTF16_0 : List UInt8 := dkwJ21_compareToUTF16_0 ++ []
theorem dksJ21_compareToUTF16_0 : cJ21_compareToUTF16.data.toList.drop 0 = dktJ21_compareToUTF16_0 := by decide +kernel
theorem dJ21_compareToUTF16_0 : decode cJ21_compareToUTF16 0 = .ok (.aload_n 0, 1) := dk_42 (dk_at dksJ21_compareToUTF16_0 0 rfl rfl)
theorem dJ21_compareToUTF16_1 : decode cJ21_compareToUTF16 1 = .ok (.invokestatic 54, 3) := dk_184 0 54 (dk_at dksJ21_compareToUTF16_0 1 rfl rfl)
theorem dJ21_compareToUTF16_4 : decode cJ21_compareToUTF16 4 = .ok (.istore_n 2, 1) := dk_61 (dk_at dksJ21_compareToUTF16_0 4 rfl rfl)
theorem dJ21_compareToUTF16_5 : decode cJ21_compareToUTF16 5 = .ok (.aload_n 1, 1) := dk_43 (dk_at dksJ21_compareToUTF16_0 5 rfl rfl)
theorem dJ21_compareToUTF16_6 : decode cJ21_compareToUTF16 6 = .ok (.invokestatic 58, 3) := dk_184 0 58 (dk_at dksJ21_compareToUTF16_0 6 rfl rfl)
theorem dJ21_compareToUTF16_9 : decode cJ21_compareToUTF16 9 = .ok (.istore_n 3, 1) := dk_62 (dk_at dksJ21_compareToUTF16_0 9 rfl rfl)
theorem dJ21_compareToUTF16_10 : decode cJ21_compareToUTF16 10 = .ok (.aload_n 0, 1) := dk_42 (dk_at dksJ21_compareToUTF16_0 10 rfl rfl)
theorem dJ21_compareToUTF16_11 : decode cJ21_compareToUTF16 11 = .ok (.aload_n 1, 1) := dk_43 (dk_at dksJ21_compareToUTF16_0 11 rfl rfl)
theorem dJ21_compareToUTF16_12 : decode cJ21_compareToUTF16 12 = .ok (.iload_n 2, 1) := dk_28 (dk_at dksJ21_compareToUTF16_0 12 rfl rfl)
theorem dJ21_compareToUTF16_13 : decode cJ21_compareToUTF16 13 = .ok (.iload_n 3, 1) := dk_29 (dk_at dksJ21_compareToUTF16_0 13 rfl rfl)
theorem dJ21_compareToUTF16_14 : decode cJ21_compareToUTF16 14 = .ok (.invokestatic 59, 3) := dk_184 0 59 (dk_at dksJ21_compareToUTF16_0 14 rfl rfl)
theorem dJ21_compareToUTF16_17 : decode cJ21_compareToUTF16 17 = .ok (.ireturn, 1) := dk_172 (dk_at dksJ21_compareToUTF16_0 17 rfl rfl)
abbrev cJ21_length : ByteArray := prog_48_method_5_code
def yJ21_length : MethodName := ⟨RJ21, "length", "([B)I"⟩
theorem dJ21_length_0 : decode cJ21_length 0 = .ok (.aload_n 0, 1) := by decide +kernel
theorem dJ21_length_1 : decode cJ21_length 1 = .ok (.arraylength, 1) := by decide +kernel
theorem dJ21_length_2 : decode cJ21_length 2 = .ok (.ireturn, 1) := by decide +kernel
abbrev cJ21_compareToUTF16Values : ByteArray := prog_48_method_18_code
def yJ21_compareToUTF16Values : MethodName := ⟨RJ21, "compareToUTF16Values", "([B[BII)I"⟩
def dkwJ21_compareToUTF16Values_2 : List UInt8 := [132, 5, 1, 167, 255, 217, 28, 29, 100, 172]
abbrev dktJ21_compareToUTF16Values_2 : List UInt8 := dkwJ21_compareToUTF16Values_2 ++ []
def dkwJ21_compareToUTF16Values_1 : List UInt8 := [54, 6, 43, 21, 5, 184, 0, 65, 54, 7, 21, 6, 21, 7, 159, 0, 9, 21, 6, 21, 7, 100, 172]
abbrev dktJ21_compareToUTF16Values_1 : List UInt8 := dkwJ21_compareToUTF16Values_1 ++ dktJ21_compareToUTF16Values_2
def dkwJ21_compareToUTF16Values_0 : List UInt8 := [28, 29, 184, 0, 38, 54, 4, 3, 54, 5, 21, 5, 21, 4, 162, 0, 38, 42, 21, 5, 184, 0, 50]
abbrev dktJ21_compareToUTF16Values_0 : List UInt8 := dkwJ21_compareToUTF16Values_0 ++ dktJ21_compareToUTF16Values_1
theorem dksJ21_compareToUTF16Values_0 : cJ21_compareToUTF16Values.data.toList.drop 0 = dktJ21_compareToUTF16Values_0 := by decide +kernel
theorem dksJ21_compareToUTF16Values_1 : cJ21_compareToUTF16Values.data.toList.drop 23 = dktJ21_compareToUTF16Values_1 := dk_seg dksJ21_compareToUTF16Values_0 23 rfl rfl
theorem dksJ21_compareToUTF16Values_2 : cJ21_compareToUTF16Values.data.toList.drop 46 = dktJ21_compareToUTF16Values_2 := dk_seg dksJ21_compareToUTF16Values_1 23 rfl rfl
theorem dJ21_compareToUTF16Values_0 : decode cJ21_compareToUTF16Values 0 = .ok (.iload_n 2, 1) := dk_28 (dk_at dksJ21_compareToUTF16Values_0 0 rfl rfl)
theorem dJ21_compareToUTF16Values_1 : decode cJ21_compareToUTF16Values 1 = .ok (.iload_n 3, 1) := dk_29 (dk_at dksJ21_compareToUTF16Values_0 1 rfl rfl)
theorem dJ21_compareToUTF16Values_2 : decode cJ21_compareToUTF16Values 2 = .ok (.invokestatic 38, 3) := dk_184 0 38 (dk_at dksJ21_compareToUTF16Values_0 2 rfl rfl)
theorem dJ21_compareToUTF16Values_5 : decode cJ21_compareToUTF16Values 5 = .ok (.istore 4, 2) := dk_54 4 (dk_at dksJ21_compareToUTF16Values_0 5 rfl rfl)
theorem dJ21_compareToUTF16Values_7 : decode cJ21_compareToUTF16Values 7 = .ok (.iconst 0, 1) := dk_3 (dk_at dksJ21_compareToUTF16Values_0 7 rfl rfl)
theorem dJ21_compareToUTF16Values_8 : decode cJ21_compareToUTF16Values 8 = .ok (.istore 5, 2) := dk_54 5 (dk_at dksJ21_compareToUTF16Values_0 8 rfl rfl)
theorem dJ21_compareToUTF16Values_10 : decode cJ21_compareToUTF16Values 10 = .ok (.iload 5, 2) := dk_21 5 (dk_at dksJ21_compareToUTF16Values_0 10 rfl rfl)
theorem dJ21_compareToUTF16Values_12 : decode cJ21_compareToUTF16Values 12 = .ok (.iload 4, 2) := dk_21 4 (dk_at dksJ21_compareToUTF16Values_0 12 rfl rfl)
theorem dJ21_compareToUTF16Values_14 : decode cJ21_compareToUTF16Values 14 = .ok (.if_icmp .ge 38, 3) := dk_162 0 38 (dk_at dksJ21_compareToUTF16Values_0 14 rfl rfl)
theorem dJ21_compareToUTF16Values_17 : decode cJ21_compareToUTF16Values 17 = .ok (.aload_n 0, 1) := dk_42 (dk_at dksJ21_compareToUTF16Values_0 17 rfl rfl)
theorem dJ21_compareToUTF16Values_18 : decode cJ21_compareToUTF16Values 18 = .ok (.iload 5, 2) := dk_21 5 (dk_at dksJ21_compareToUTF16Values_0 18 rfl rfl)
theorem dJ21_compareToUTF16Values_20 : decode cJ21_compareToUTF16Values 20 = .ok (.invokestatic 50, 3) := dk_184 0 50 (dk_at dksJ21_compareToUTF16Values_0 20 rfl rfl)
theorem dJ21_compareToUTF16Values_23 : decode cJ21_compareToUTF16Values 23 = .ok (.istore 6, 2) := dk_54 6 (dk_at dksJ21_compareToUTF16Values_1 0 rfl rfl)
theorem dJ21_compareToUTF16Values_25 : decode cJ21_compareToUTF16Values 25 = .ok (.aload_n 1, 1) := dk_43 (dk_at dksJ21_compareToUTF16Values_1 2 rfl rfl)
theorem dJ21_compareToUTF16Values_26 : decode cJ21_compareToUTF16Values 26 = .ok (.iload 5, 2) := dk_21 5 (dk_at dksJ21_compareToUTF16Values_1 3 rfl rfl)
theorem dJ21_compareToUTF16Values_28 : decode cJ21_compareToUTF16Values 28 = .ok (.invokestatic 65, 3) := dk_184 0 65 (dk_at dksJ21_compareToUTF16Values_1 5 rfl rfl)
theorem dJ21_compareToUTF16Values_31 : decode cJ21_compareToUTF16Values 31 = .ok (.istore 7, 2) := dk_54 7 (dk_at dksJ21_compareToUTF16Values_1 8 rfl rfl)
theorem dJ21_compareToUTF16Values_33 : decode cJ21_compareToUTF16Values 33 = .ok (.iload 6, 2) := dk_21 6 (dk_at dksJ21_compareToUTF16Values_1 10 rfl rfl)
theorem dJ21_compareToUTF16Values_35 : decode cJ21_compareToUTF16Values 35 = .ok (.iload 7, 2) := dk_21 7 (dk_at dksJ21_compareToUTF16Values_1 12 rfl rfl)
theorem dJ21_compareToUTF16Values_37 : decode cJ21_compareToUTF16Values 37 = .ok (.if_icmp .eq 9, 3) := dk_159 0 9 (dk_at dksJ21_compareToUTF16Values_1 14 rfl rfl)
theorem dJ21_compareToUTF16Values_40 : decode cJ21_compareToUTF16Values 40 = .ok (.iload 6, 2) := dk_21 6 (dk_at dksJ21_compareToUTF16Values_1 17 rfl rfl)
theorem dJ21_compareToUTF16Values_42 : decode cJ21_compareToUTF16Values 42 = .ok (.iload 7, 2) := dk_21 7 (dk_at dksJ21_compareToUTF16Values_1 19 rfl rfl)
theorem dJ21_compareToUTF16Values_44 : decode cJ21_compareToUTF16Values 44 = .ok (.isub, 1) := dk_100 (dk_at dksJ21_compareToUTF16Values_1 21 rfl rfl)
theorem dJ21_compareToUTF16Values_45 : decode cJ21_compareToUTF16Values 45 = .ok (.ireturn, 1) := dk_172 (dk_at dksJ21_compareToUTF16Values_1 22 rfl rfl)
theorem dJ21_compareToUTF16Values_46 : decode cJ21_compareToUTF16Values 46 = .ok (.iinc 5 1, 3) := dk_132 5 1 (dk_at dksJ21_compareToUTF16Values_2 0 rfl rfl)
theorem dJ21_compareToUTF16Values_49 : decode cJ21_compareToUTF16Values 49 = .ok (.goto (-39), 3) := dk_167 255 217 (dk_at dksJ21_compareToUTF16Values_2 3 rfl rfl)
theorem dJ21_compareToUTF16Values_52 : decode cJ21_compareToUTF16Values 52 = .ok (.iload_n 2, 1) := dk_28 (dk_at dksJ21_compareToUTF16Values_2 6 rfl rfl)
theorem dJ21_compareToUTF16Values_53 : decode cJ21_compareToUTF16Values 53 = .ok (.iload_n 3, 1) := dk_29 (dk_at dksJ21_compareToUTF16Values_2 7 rfl rfl)
theorem dJ21_compareToUTF16Values_54 : decode cJ21_compareToUTF16Values 54 = .ok (.isub, 1) := dk_100 (dk_at dksJ21_compareToUTF16Values_2 8 rfl rfl)
theorem dJ21_compareToUTF16Values_55 : decode cJ21_compareToUTF16Values 55 = .ok (.ireturn, 1) := dk_172 (dk_at dksJ21_compareToUTF16Values_2 9 rfl rfl)
abbrev cJ21_compareToUTF16_2 : ByteArray := prog_48_method_17_code
def yJ21_compareToUTF16_2 : MethodName := ⟨RJ21, "compareToUTF16", "([B[BII)I"⟩
def dkwJ21_compareToUTF16_2_0 : List UInt8 := [28, 42, 184, 0, 54, 184, 0, 62, 29, 43, 184, 0, 58, 184, 0, 62, 42, 43, 28, 29, 184, 0, 59, 172]
abbrev dktJ21_compareToUTF16_2_0 : List UInt8 := dkwJ21_compareToUTF16_2_0 ++ []
theorem dksJ21_compareToUTF16_2_0 : cJ21_compareToUTF16_2.data.toList.drop 0 = dktJ21_compareToUTF16_2_0 := by decide +kernel
theorem dJ21_compareToUTF16_2_0 : decode cJ21_compareToUTF16_2 0 = .ok (.iload_n 2, 1) := dk_28 (dk_at dksJ21_compareToUTF16_2_0 0 rfl rfl)
theorem dJ21_compareToUTF16_2_1 : decode cJ21_compareToUTF16_2 1 = .ok (.aload_n 0, 1) := dk_42 (dk_at dksJ21_compareToUTF16_2_0 1 rfl rfl)
theorem dJ21_compareToUTF16_2_2 : decode cJ21_compareToUTF16_2 2 = .ok (.invokestatic 54, 3) := dk_184 0 54 (dk_at dksJ21_compareToUTF16_2_0 2 rfl rfl)
theorem dJ21_compareToUTF16_2_5 : decode cJ21_compareToUTF16_2 5 = .ok (.invokestatic 62, 3) := dk_184 0 62 (dk_at dksJ21_compareToUTF16_2_0 5 rfl rfl)
theorem dJ21_compareToUTF16_2_8 : decode cJ21_compareToUTF16_2 8 = .ok (.iload_n 3, 1) := dk_29 (dk_at dksJ21_compareToUTF16_2_0 8 rfl rfl)
theorem dJ21_compareToUTF16_2_9 : decode cJ21_compareToUTF16_2 9 = .ok (.aload_n 1, 1) := dk_43 (dk_at dksJ21_compareToUTF16_2_0 9 rfl rfl)
theorem dJ21_compareToUTF16_2_10 : decode cJ21_compareToUTF16_2 10 = .ok (.invokestatic 58, 3) := dk_184 0 58 (dk_at dksJ21_compareToUTF16_2_0 10 rfl rfl)
theorem dJ21_compareToUTF16_2_13 : decode cJ21_compareToUTF16_2 13 = .ok (.invokestatic 62, 3) := dk_184 0 62 (dk_at dksJ21_compareToUTF16_2_0 13 rfl rfl)
theorem dJ21_compareToUTF16_2_16 : decode cJ21_compareToUTF16_2 16 = .ok (.aload_n 0, 1) := dk_42 (dk_at dksJ21_compareToUTF16_2_0 16 rfl rfl)
theorem dJ21_compareToUTF16_2_17 : decode cJ21_compareToUTF16_2 17 = .ok (.aload_n 1, 1) := dk_43 (dk_at dksJ21_compareToUTF16_2_0 17 rfl rfl)
theorem dJ21_compareToUTF16_2_18 : decode cJ21_compareToUTF16_2 18 = .ok (.iload_n 2, 1) := dk_28 (dk_at dksJ21_compareToUTF16_2_0 18 rfl rfl)
theorem dJ21_compareToUTF16_2_19 : decode cJ21_compareToUTF16_2 19 = .ok (.iload_n 3, 1) := dk_29 (dk_at dksJ21_compareToUTF16_2_0 19 rfl rfl)
theorem dJ21_compareToUTF16_2_20 : decode cJ21_compareToUTF16_2 20 = .ok (.invokestatic 59, 3) := dk_184 0 59 (dk_at dksJ21_compareToUTF16_2_0 20 rfl rfl)
theorem dJ21_compareToUTF16_2_23 : decode cJ21_compareToUTF16_2 23 = .ok (.ireturn, 1) := dk_172 (dk_at dksJ21_compareToUTF16_2_0 23 rfl rfl)
abbrev cJ21_charAt : ByteArray := prog_48_method_2_code
def yJ21_charAt : MethodName := ⟨RJ21, "charAt", "([BI)C"⟩
def dkwJ21_charAt_0 : List UInt8 := [27, 42, 190, 184, 0, 9, 42, 27, 51, 17, 0, 255, 126, 146, 172]
abbrev dktJ21_charAt_0 : List UInt8 := dkwJ21_charAt_0 ++ []
theorem dksJ21_charAt_0 : cJ21_charAt.data.toList.drop 0 = dktJ21_charAt_0 := by decide +kernel
theorem dJ21_charAt_0 : decode cJ21_charAt 0 = .ok (.iload_n 1, 1) := dk_27 (dk_at dksJ21_charAt_0 0 rfl rfl)
theorem dJ21_charAt_1 : decode cJ21_charAt 1 = .ok (.aload_n 0, 1) := dk_42 (dk_at dksJ21_charAt_0 1 rfl rfl)
theorem dJ21_charAt_2 : decode cJ21_charAt 2 = .ok (.arraylength, 1) := dk_190 (dk_at dksJ21_charAt_0 2 rfl rfl)
theorem dJ21_charAt_3 : decode cJ21_charAt 3 = .ok (.invokestatic 9, 3) := dk_184 0 9 (dk_at dksJ21_charAt_0 3 rfl rfl)
theorem dJ21_charAt_6 : decode cJ21_charAt 6 = .ok (.aload_n 0, 1) := dk_42 (dk_at dksJ21_charAt_0 6 rfl rfl)
theorem dJ21_charAt_7 : decode cJ21_charAt 7 = .ok (.iload_n 1, 1) := dk_27 (dk_at dksJ21_charAt_0 7 rfl rfl)
theorem dJ21_charAt_8 : decode cJ21_charAt 8 = .ok (.baload, 1) := dk_51 (dk_at dksJ21_charAt_0 8 rfl rfl)
theorem dJ21_charAt_9 : decode cJ21_charAt 9 = .ok (.sipush 255, 3) := dk_17 0 255 (dk_at dksJ21_charAt_0 9 rfl rfl)
theorem dJ21_charAt_12 : decode cJ21_charAt 12 = .ok (.iand, 1) := dk_126 (dk_at dksJ21_charAt_0 12 rfl rfl)
theorem dJ21_charAt_13 : decode cJ21_charAt 13 = .ok (.i2c, 1) := dk_146 (dk_at dksJ21_charAt_0 13 rfl rfl)
theorem dJ21_charAt_14 : decode cJ21_charAt 14 = .ok (.ireturn, 1) := dk_172 (dk_at dksJ21_charAt_0 14 rfl rfl)
theorem q124 : (Jvm.Cond.initialized "java/lang/StringLatin1") ∈ lw_all := lw_g (lw_at lw_m1 28 rfl) rfl
theorem q740 : (Jvm.Cond.static ({ cls := "java/lang/StringLatin1", name := "inflate", desc := "([BI[BII)V" } : Jvm.MethodName)) ∈ lw_all := lw_g (lw_at lw_m3 164 rfl) rfl
theorem q741 : (Jvm.Cond.code ({ cls := "java/lang/StringLatin1", name := "inflate", desc := "([BI[BII)V" } : Jvm.MethodName) prog_48_method_50_code (5 : Nat) (Option.none : Option Jvm.ClassFile.FieldType)) ∈ lw_all := lw_g (lw_at lw_m3 165 rfl) rfl
theorem q742 : (Jvm.Cond.methodLink "java/lang/StringLatin1" (240 : Nat) ({ cls := "java/lang/StringUTF16", name := "inflate", desc := "([BI[BII)V" } : Jvm.MethodName)) ∈ lw_all := lw_g (lw_at lw_m3 166 rfl) rfl
theorem q961 : (Jvm.Cond.static ({ cls := "java/lang/StringLatin1", name := "canEncode", desc := "(C)Z" } : Jvm.MethodName)) ∈ lw_all := lw_g (lw_at lw_m4 145 rfl) rfl
theorem q962 : (Jvm.Cond.code ({ cls := "java/lang/StringLatin1", name := "canEncode", desc := "(C)Z" } : Jvm.MethodName) prog_48_method_3_code (1 : Nat) (Option.some Jvm.ClassFile.FieldType.boolean)) ∈ lw_all := lw_g (lw_at lw_m4 146 rfl) rfl
theorem q1037 : (Jvm.Cond.static ({ cls := "java/lang/StringLatin1", name := "equals", desc := "([B[B)Z" } : Jvm.MethodName)) ∈ lw_all := lw_g (lw_at lw_m4 221 rfl) rfl
theorem q1038 : (Jvm.Cond.code ({ cls := "java/lang/StringLatin1", name := "equals", desc := "([B[B)Z" } : Jvm.MethodName) prog_48_method_13_code (3 : Nat) (Option.some Jvm.ClassFile.FieldType.boolean)) ∈ lw_all := lw_g (lw_at lw_m4 222 rfl) rfl
theorem q2206 : (Jvm.Cond.static ({ cls := "java/lang/StringLatin1", name := "compareTo", desc := "([B[B)I" } : Jvm.MethodName)) ∈ lw_all := lw_g (lw_at lw_m9 190 rfl) rfl
theorem q2207 : (Jvm.Cond.code ({ cls := "java/lang/StringLatin1", name := "compareTo", desc := "([B[B)I" } : Jvm.MethodName) prog_48_method_14_code (4 : Nat) (Option.some Jvm.ClassFile.FieldType.int)) ∈ lw_all := lw_g (lw_at lw_m9 191 rfl) rfl
theorem q2208 : (Jvm.Cond.methodLink "java/lang/StringLatin1" (34 : Nat) ({ cls := "java/lang/StringLatin1", name := "compareTo", desc := "([B[BII)I" } : Jvm.MethodName)) ∈ lw_all := lw_g (lw_at lw_m9 192 rfl) rfl
theorem q2209 : (Jvm.Cond.static ({ cls := "java/lang/StringLatin1", name := "compareTo", desc := "([B[BII)I" } : Jvm.MethodName)) ∈ lw_all := lw_g (lw_at lw_m9 193 rfl) rfl
theorem q2210 : (Jvm.Cond.code ({ cls := "java/lang/StringLatin1", name := "compareTo", desc := "([B[BII)I" } : Jvm.MethodName) prog_48_method_15_code (6 : Nat) (Option.some Jvm.ClassFile.FieldType.int)) ∈ lw_all := lw_g (lw_at lw_m9 194 rfl) rfl
theorem q2211 : (Jvm.Cond.methodLink "java/lang/StringLatin1" (38 : Nat) ({ cls := "java/lang/Math", name := "min", desc := "(II)I" } : Jvm.MethodName)) ∈ lw_all := lw_g (lw_at lw_m9 195 rfl) rfl
theorem q2212 : (Jvm.Cond.methodLink "java/lang/StringLatin1" (44 : Nat) ({ cls := "jdk/internal/util/ArraysSupport", name := "mismatch", desc := "([B[BI)I" } : Jvm.MethodName)) ∈ lw_all := lw_g (lw_at lw_m9 196 rfl) rfl
theorem q2316 : (Jvm.Cond.methodLink "java/lang/StringLatin1" (50 : Nat) ({ cls := "java/lang/StringLatin1", name := "getChar", desc := "([BI)C" } : Jvm.MethodName)) ∈ lw_all := lw_g (lw_at lw_m10 60 rfl) rfl
theorem q2317 : (Jvm.Cond.static ({ cls := "java/lang/StringLatin1", name := "getChar", desc := "([BI)C" } : Jvm.MethodName)) ∈ lw_all := lw_g (lw_at lw_m10 61 rfl) rfl
theorem q2318 : (Jvm.Cond.code ({ cls := "java/lang/StringLatin1", name := "getChar", desc := "([BI)C" } : Jvm.MethodName) prog_48_method_44_code (2 : Nat) (Option.some Jvm.ClassFile.FieldType.char)) ∈ lw_all := lw_g (lw_at lw_m10 62 rfl) rfl
theorem q2327 : (Jvm.Cond.static ({ cls := "java/lang/StringLatin1", name := "compareToUTF16", desc := "([B[B)I" } : Jvm.MethodName)) ∈ lw_all := lw_g (lw_at lw_m10 71 rfl) rfl
theorem q2328 : (Jvm.Cond.code ({ cls := "java/lang/StringLatin1", name := "compareToUTF16", desc := "([B[B)I" } : Jvm.MethodName) prog_48_method_16_code (4 : Nat) (Option.some Jvm.ClassFile.FieldType.int)) ∈ lw_all := lw_g (lw_at lw_m10 72 rfl) rfl
theorem q2329 : (Jvm.Cond.methodLink "java/lang/StringLatin1" (54 : Nat) ({ cls := "java/lang/StringLatin1", name := "length", desc := "([B)I" } : Jvm.MethodName)) ∈ lw_all := lw_g (lw_at lw_m10 73 rfl) rfl
theorem q2330 : (Jvm.Cond.static ({ cls := "java/lang/StringLatin1", name := "length", desc := "([B)I" } : Jvm.MethodName)) ∈ lw_all := lw_g (lw_at lw_m10 74 rfl) rfl
theorem q2331 : (Jvm.Cond.code ({ cls := "java/lang/StringLatin1", name := "length", desc := "([B)I" } : Jvm.MethodName) prog_48_method_5_code (1 : Nat) (Option.some Jvm.ClassFile.FieldType.int)) ∈ lw_all := lw_g (lw_at lw_m10 75 rfl) rfl
theorem q2332 : (Jvm.Cond.methodLink "java/lang/StringLatin1" (58 : Nat) ({ cls := "java/lang/StringUTF16", name := "length", desc := "([B)I" } : Jvm.MethodName)) ∈ lw_all := lw_g (lw_at lw_m10 76 rfl) rfl
theorem q2333 : (Jvm.Cond.methodLink "java/lang/StringLatin1" (59 : Nat) ({ cls := "java/lang/StringLatin1", name := "compareToUTF16Values", desc := "([B[BII)I" } : Jvm.MethodName)) ∈ lw_all := lw_g (lw_at lw_m10 77 rfl) rfl
theorem q2334 : (Jvm.Cond.static ({ cls := "java/lang/StringLatin1", name := "compareToUTF16Values", desc := "([B[BII)I" } : Jvm.MethodName)) ∈ lw_all := lw_g (lw_at lw_m10 78 rfl) rfl
theorem q2335 : (Jvm.Cond.code ({ cls := "java/lang/StringLatin1", name := "compareToUTF16Values", desc := "([B[BII)I" } : Jvm.MethodName) prog_48_method_18_code (8 : Nat) (Option.some Jvm.ClassFile.FieldType.int)) ∈ lw_all := lw_g (lw_at lw_m10 79 rfl) rfl
theorem q2336 : (Jvm.Cond.methodLink "java/lang/StringLatin1" (65 : Nat) ({ cls := "java/lang/StringUTF16", name := "getChar", desc := "([BI)C" } : Jvm.MethodName)) ∈ lw_all := lw_g (lw_at lw_m10 80 rfl) rfl
theorem q2366 : (Jvm.Cond.static ({ cls := "java/lang/StringLatin1", name := "compareToUTF16", desc := "([B[BII)I" } : Jvm.MethodName)) ∈ lw_all := lw_g (lw_at lw_m10 110 rfl) rfl
theorem q2367 : (Jvm.Cond.code ({ cls := "java/lang/StringLatin1", name := "compareToUTF16", desc := "([B[BII)I" } : Jvm.MethodName) prog_48_method_17_code (4 : Nat) (Option.some Jvm.ClassFile.FieldType.int)) ∈ lw_all := lw_g (lw_at lw_m10 111 rfl) rfl
theorem q2368 : (Jvm.Cond.methodLink "java/lang/StringLatin1" (62 : Nat) ({ cls := "java/lang/String", name := "checkOffset", desc := "(II)V" } : Jvm.MethodName)) ∈ lw_all := lw_g (lw_at lw_m10 112 rfl) rfl
theorem q2552 : (Jvm.Cond.static ({ cls := "java/lang/StringLatin1", name := "charAt", desc := "([BI)C" } : Jvm.MethodName)) ∈ lw_all := lw_g (lw_at lw_m11 56 rfl) rfl
theorem q2553 : (Jvm.Cond.code ({ cls := "java/lang/StringLatin1", name := "charAt", desc := "([BI)C" } : Jvm.MethodName) prog_48_method_2_code (2 : Nat) (Option.some Jvm.ClassFile.FieldType.char)) ∈ lw_all := lw_g (lw_at lw_m11 57 rfl) rfl
theorem q2554 : (Jvm.Cond.methodLink "java/lang/StringLatin1" (9 : Nat) ({ cls := "java/lang/String", name := "checkIndex", desc := "(II)V" } : Jvm.MethodName)) ∈ lw_all := lw_g (lw_at lw_m11 58 rfl) rfl

/-! java/lang/Number -/
set_option maxRecDepth 100000
def RJ22 : String := "java/lang/Number"
abbrev cJ22_init : ByteArray := prog_44_method_1_code
def yJ22_init : MethodName := ⟨RJ22, "<init>", "()V"⟩
theorem dJ22_init_0 : decode cJ22_init 0 = .ok (.aload_n 0, 1) := by decide +kernel
theorem dJ22_init_1 : decode cJ22_init 1 = .ok (.invokespecial 1, 3) := by decide +kernel
theorem dJ22_init_4 : decode cJ22_init 4 = .ok (.return_, 1) := by decide +kernel
theorem q125 : (Jvm.Cond.initialized "java/lang/Number") ∈ lw_all := lw_g (lw_at lw_m1 29 rfl) rfl
theorem q2636 : (Jvm.Cond.instanceMethod ({ cls := "java/lang/Number", name := "<init>", desc := "()V" } : Jvm.MethodName)) ∈ lw_all := lw_g (lw_at lw_m11 140 rfl) rfl
theorem q2637 : (Jvm.Cond.code ({ cls := "java/lang/Number", name := "<init>", desc := "()V" } : Jvm.MethodName) prog_44_method_1_code (1 : Nat) (Option.none : Option Jvm.ClassFile.FieldType)) ∈ lw_all := lw_g (lw_at lw_m11 141 rfl) rfl
theorem q2638 : (Jvm.Cond.methodLink "java/lang/Number" (1 : Nat) ({ cls := "java/lang/Object", name := "<init>", desc := "()V" } : Jvm.MethodName)) ∈ lw_all := lw_g (lw_at lw_m11 142 rfl) rfl

