set_option maxRecDepth 100000
/-! java/lang/Throwable -/
set_option maxRecDepth 100000
def RJ5 : String := "java/lang/Throwable"
def TJ5 : u_T := fun k => match k with
  | 0 => ("java/lang/Throwable", "cause", "Ljava/lang/Throwable;", false)
  | 1 => ("java/lang/Throwable", "stackTrace", "[Ljava/lang/StackTraceElement;", false)
  | 2 => ("java/lang/Throwable", "suppressedExceptions", "Ljava/util/List;", false)
  | 3 => ("java/lang/Throwable", "detailMessage", "Ljava/lang/String;", false)
  | _ => ("java/lang/Throwable", "backtrace", "Ljava/lang/Object;", false)
def tyJ5 : Nat → FieldType := fun k => match k with
  | 0 => .object "java/lang/Throwable"
  | 1 => .array (.object "java/lang/StackTraceElement")
  | 2 => .object "java/util/List"
  | 3 => .object "java/lang/String"
  | _ => .object "java/lang/Object"
abbrev wsJ50 : List Cond := u_ws RJ5 TJ5 5
theorem nmJ5 : ∀ a, a < 5 → ∀ b, b < 5 → a ≠ b → (TJ5 a).2.1 ≠ (TJ5 b).2.1 := by decide +kernel
theorem tyJ5_ok : ∀ k, k < 5 → parseFieldDescriptor (TJ5 k).2.2.1 = some (tyJ5 k) := by decide +kernel
abbrev cJ5_init : ByteArray := prog_51_method_2_code
def yJ5_init : MethodName := ⟨RJ5, "<init>", "(Ljava/lang/String;)V"⟩
def dkwJ5_init_1 : List UInt8 := [182, 0, 27, 87, 42, 43, 181, 0, 31, 177]
abbrev dktJ5_init_1 : List UInt8 := dkwJ5_init_1 ++ []
def dkwJ5_init_0 : List UInt8 := [42, 183, 0, 1, 42, 42, 181, 0, 7, 42, 178, 0, 13, 181, 0, 17, 42, 178, 0, 20, 181, 0, 24, 42]
abbrev dktJ5_init_0 : List UInt8 := dkwJ5_init_0 ++ dktJ5_init_1
theorem dksJ5_init_0 : cJ5_init.data.toList.drop 0 = dktJ5_init_0 := by decide +kernel
theorem dksJ5_init_1 : cJ5_init.data.toList.drop 24 = dktJ5_init_1 := dk_seg dksJ5_init_0 24 rfl rfl
theorem dJ5_init_0 : decode cJ5_init 0 = .ok (.aload_n 0, 1) := dk_42 (dk_at dksJ5_init_0 0 rfl rfl)
theorem dJ5_init_1 : decode cJ5_init 1 = .ok (.invokespecial 1, 3) := dk_183 0 1 (dk_at dksJ5_init_0 1 rfl rfl)
theorem dJ5_init_4 : decode cJ5_init 4 = .ok (.aload_n 0, 1) := dk_42 (dk_at dksJ5_init_0 4 rfl rfl)
theorem dJ5_init_5 : decode cJ5_init 5 = .ok (.aload_n 0, 1) := dk_42 (dk_at dksJ5_init_0 5 rfl rfl)
theorem dJ5_init_6 : decode cJ5_init 6 = .ok (.putfield 7, 3) := dk_181 0 7 (dk_at dksJ5_init_0 6 rfl rfl)
theorem dJ5_init_9 : decode cJ5_init 9 = .ok (.aload_n 0, 1) := dk_42 (dk_at dksJ5_init_0 9 rfl rfl)
theorem dJ5_init_10 : decode cJ5_init 10 = .ok (.getstatic 13, 3) := dk_178 0 13 (dk_at dksJ5_init_0 10 rfl rfl)
theorem dJ5_init_13 : decode cJ5_init 13 = .ok (.putfield 17, 3) := dk_181 0 17 (dk_at dksJ5_init_0 13 rfl rfl)
theorem dJ5_init_16 : decode cJ5_init 16 = .ok (.aload_n 0, 1) := dk_42 (dk_at dksJ5_init_0 16 rfl rfl)
theorem dJ5_init_17 : decode cJ5_init 17 = .ok (.getstatic 20, 3) := dk_178 0 20 (dk_at dksJ5_init_0 17 rfl rfl)
theorem dJ5_init_20 : decode cJ5_init 20 = .ok (.putfield 24, 3) := dk_181 0 24 (dk_at dksJ5_init_0 20 rfl rfl)
theorem dJ5_init_23 : decode cJ5_init 23 = .ok (.aload_n 0, 1) := dk_42 (dk_at dksJ5_init_0 23 rfl rfl)
theorem dJ5_init_24 : decode cJ5_init 24 = .ok (.invokevirtual 27, 3) := dk_182 0 27 (dk_at dksJ5_init_1 0 rfl rfl)
theorem dJ5_init_27 : decode cJ5_init 27 = .ok (.pop, 1) := dk_87 (dk_at dksJ5_init_1 3 rfl rfl)
theorem dJ5_init_28 : decode cJ5_init 28 = .ok (.aload_n 0, 1) := dk_42 (dk_at dksJ5_init_1 4 rfl rfl)
theorem dJ5_init_29 : decode cJ5_init 29 = .ok (.aload_n 1, 1) := dk_43 (dk_at dksJ5_init_1 5 rfl rfl)
theorem dJ5_init_30 : decode cJ5_init 30 = .ok (.putfield 31, 3) := dk_181 0 31 (dk_at dksJ5_init_1 6 rfl rfl)
theorem dJ5_init_33 : decode cJ5_init 33 = .ok (.return_, 1) := dk_177 (dk_at dksJ5_init_1 9 rfl rfl)
abbrev cJ5_init_2 : ByteArray := prog_51_method_1_code
def yJ5_init_2 : MethodName := ⟨RJ5, "<init>", "()V"⟩
def dkwJ5_init_2_1 : List UInt8 := [182, 0, 27, 87, 177]
abbrev dktJ5_init_2_1 : List UInt8 := dkwJ5_init_2_1 ++ []
def dkwJ5_init_2_0 : List UInt8 := [42, 183, 0, 1, 42, 42, 181, 0, 7, 42, 178, 0, 13, 181, 0, 17, 42, 178, 0, 20, 181, 0, 24, 42]
abbrev dktJ5_init_2_0 : List UInt8 := dkwJ5_init_2_0 ++ dktJ5_init_2_1
theorem dksJ5_init_2_0 : cJ5_init_2.data.toList.drop 0 = dktJ5_init_2_0 := by decide +kernel
theorem dksJ5_init_2_1 : cJ5_init_2.data.toList.drop 24 = dktJ5_init_2_1 := dk_seg dksJ5_init_2_0 24 rfl rfl
theorem dJ5_init_2_0 : decode cJ5_init_2 0 = .ok (.aload_n 0, 1) := dk_42 (dk_at dksJ5_init_2_0 0 rfl rfl)
theorem dJ5_init_2_1 : decode cJ5_init_2 1 = .ok (.invokespecial 1, 3) := dk_183 0 1 (dk_at dksJ5_init_2_0 1 rfl rfl)
theorem dJ5_init_2_4 : decode cJ5_init_2 4 = .ok (.aload_n 0, 1) := dk_42 (dk_at dksJ5_init_2_0 4 rfl rfl)
theorem dJ5_init_2_5 : decode cJ5_init_2 5 = .ok (.aload_n 0, 1) := dk_42 (dk_at dksJ5_init_2_0 5 rfl rfl)
theorem dJ5_init_2_6 : decode cJ5_init_2 6 = .ok (.putfield 7, 3) := dk_181 0 7 (dk_at dksJ5_init_2_0 6 rfl rfl)
theorem dJ5_init_2_9 : decode cJ5_init_2 9 = .ok (.aload_n 0, 1) := dk_42 (dk_at dksJ5_init_2_0 9 rfl rfl)
theorem dJ5_init_2_10 : decode cJ5_init_2 10 = .ok (.getstatic 13, 3) := dk_178 0 13 (dk_at dksJ5_init_2_0 10 rfl rfl)
theorem dJ5_init_2_13 : decode cJ5_init_2 13 = .ok (.putfield 17, 3) := dk_181 0 17 (dk_at dksJ5_init_2_0 13 rfl rfl)
theorem dJ5_init_2_16 : decode cJ5_init_2 16 = .ok (.aload_n 0, 1) := dk_42 (dk_at dksJ5_init_2_0 16 rfl rfl)
theorem dJ5_init_2_17 : decode cJ5_init_2 17 = .ok (.getstatic 20, 3) := dk_178 0 20 (dk_at dksJ5_init_2_0 17 rfl rfl)
theorem dJ5_init_2_20 : decode cJ5_init_2 20 = .ok (.putfield 24, 3) := dk_181 0 24 (dk_at dksJ5_init_2_0 20 rfl rfl)
theorem dJ5_init_2_23 : decode cJ5_init_2 23 = .ok (.aload_n 0, 1) := dk_42 (dk_at dksJ5_init_2_0 23 rfl rfl)
theorem dJ5_init_2_24 : decode cJ5_init_2 24 = .ok (.invokevirtual 27, 3) := dk_182 0 27 (dk_at dksJ5_init_2_1 0 rfl rfl)
theorem dJ5_init_2_27 : decode cJ5_init_2 27 = .ok (.pop, 1) := dk_87 (dk_at dksJ5_init_2_1 3 rfl rfl)
theorem dJ5_init_2_28 : decode cJ5_init_2 28 = .ok (.return_, 1) := dk_177 (dk_at dksJ5_init_2_1 4 rfl rfl)
abbrev cJ5_init_3 : ByteArray := prog_51_method_5_code
def yJ5_init_3 : MethodName := ⟨RJ5, "<init>", "(Ljava/lang/String;Ljava/lang/Throwable;ZZ)V"⟩
def dkwJ5_init_3_2 : List UInt8 := [44, 181, 0, 7, 29, 154, 0, 8, 42, 1, 181, 0, 24, 177]
abbrev dktJ5_init_3_2 : List UInt8 := dkwJ5_init_3_2 ++ []
def dkwJ5_init_3_1 : List UInt8 := [21, 4, 153, 0, 11, 42, 182, 0, 27, 87, 167, 0, 8, 42, 1, 181, 0, 17, 42, 43, 181, 0, 31, 42]
abbrev dktJ5_init_3_1 : List UInt8 := dkwJ5_init_3_1 ++ dktJ5_init_3_2
def dkwJ5_init_3_0 : List UInt8 := [42, 183, 0, 1, 42, 42, 181, 0, 7, 42, 178, 0, 13, 181, 0, 17, 42, 178, 0, 20, 181, 0, 24]
abbrev dktJ5_init_3_0 : List UInt8 := dkwJ5_init_3_0 ++ dktJ5_init_3_1
theorem dksJ5_init_3_0 : cJ5_init_3.data.toList.drop 0 = dktJ5_init_3_0 := by decide +kernel
theorem dksJ5_init_3_1 : cJ5_init_3.data.toList.drop 23 = dktJ5_init_3_1 := dk_seg dksJ5_init_3_0 23 rfl rfl
theorem dksJ5_init_3_2 : cJ5_init_3.data.toList.drop 47 = dktJ5_init_3_2 := dk_seg dksJ5_init_3_1 24 rfl rfl
theorem dJ5_init_3_0 : decode cJ5_init_3 0 = .ok (.aload_n 0, 1) := dk_42 (dk_at dksJ5_init_3_0 0 rfl rfl)
theorem dJ5_init_3_1 : decode cJ5_init_3 1 = .ok (.invokespecial 1, 3) := dk_183 0 1 (dk_at dksJ5_init_3_0 1 rfl rfl)
theorem dJ5_init_3_4 : decode cJ5_init_3 4 = .ok (.aload_n 0, 1) := dk_42 (dk_at dksJ5_init_3_0 4 rfl rfl)
theorem dJ5_init_3_5 : decode cJ5_init_3 5 = .ok (.aload_n 0, 1) := dk_42 (dk_at dksJ5_init_3_0 5 rfl rfl)
theorem dJ5_init_3_6 : decode cJ5_init_3 6 = .ok (.putfield 7, 3) := dk_181 0 7 (dk_at dksJ5_init_3_0 6 rfl rfl)
theorem dJ5_init_3_9 : decode cJ5_init_3 9 = .ok (.aload_n 0, 1) := dk_42 (dk_at dksJ5_init_3_0 9 rfl rfl)
theorem dJ5_init_3_10 : decode cJ5_init_3 10 = .ok (.getstatic 13, 3) := dk_178 0 13 (dk_at dksJ5_init_3_0 10 rfl rfl)
theorem dJ5_init_3_13 : decode cJ5_init_3 13 = .ok (.putfield 17, 3) := dk_181 0 17 (dk_at dksJ5_init_3_0 13 rfl rfl)
theorem dJ5_init_3_16 : decode cJ5_init_3 16 = .ok (.aload_n 0, 1) := dk_42 (dk_at dksJ5_init_3_0 16 rfl rfl)
theorem dJ5_init_3_17 : decode cJ5_init_3 17 = .ok (.getstatic 20, 3) := dk_178 0 20 (dk_at dksJ5_init_3_0 17 rfl rfl)
theorem dJ5_init_3_20 : decode cJ5_init_3 20 = .ok (.putfield 24, 3) := dk_181 0 24 (dk_at dksJ5_init_3_0 20 rfl rfl)
theorem dJ5_init_3_23 : decode cJ5_init_3 23 = .ok (.iload 4, 2) := dk_21 4 (dk_at dksJ5_init_3_1 0 rfl rfl)
theorem dJ5_init_3_25 : decode cJ5_init_3 25 = .ok (.ifCond .eq 11, 3) := dk_153 0 11 (dk_at dksJ5_init_3_1 2 rfl rfl)
theorem dJ5_init_3_28 : decode cJ5_init_3 28 = .ok (.aload_n 0, 1) := dk_42 (dk_at dksJ5_init_3_1 5 rfl rfl)
theorem dJ5_init_3_29 : decode cJ5_init_3 29 = .ok (.invokevirtual 27, 3) := dk_182 0 27 (dk_at dksJ5_init_3_1 6 rfl rfl)
theorem dJ5_init_3_32 : decode cJ5_init_3 32 = .ok (.pop, 1) := dk_87 (dk_at dksJ5_init_3_1 9 rfl rfl)
theorem dJ5_init_3_33 : decode cJ5_init_3 33 = .ok (.goto 8, 3) := dk_167 0 8 (dk_at dksJ5_init_3_1 10 rfl rfl)
theorem dJ5_init_3_36 : decode cJ5_init_3 36 = .ok (.aload_n 0, 1) := dk_42 (dk_at dksJ5_init_3_1 13 rfl rfl)
theorem dJ5_init_3_37 : decode cJ5_init_3 37 = .ok (.aconst_null, 1) := dk_1 (dk_at dksJ5_init_3_1 14 rfl rfl)
theorem dJ5_init_3_38 : decode cJ5_init_3 38 = .ok (.putfield 17, 3) := dk_181 0 17 (dk_at dksJ5_init_3_1 15 rfl rfl)
theorem dJ5_init_3_41 : decode cJ5_init_3 41 = .ok (.aload_n 0, 1) := dk_42 (dk_at dksJ5_init_3_1 18 rfl rfl)
theorem dJ5_init_3_42 : decode cJ5_init_3 42 = .ok (.aload_n 1, 1) := dk_43 (dk_at dksJ5_init_3_1 19 rfl rfl)
theorem dJ5_init_3_43 : decode cJ5_init_3 43 = .ok (.putfield 31, 3) := dk_181 0 31 (dk_at dksJ5_init_3_1 20 rfl rfl)
theorem dJ5_init_3_46 : decode cJ5_init_3 46 = .ok (.aload_n 0, 1) := dk_42 (dk_at dksJ5_init_3_1 23 rfl rfl)
theorem dJ5_init_3_47 : decode cJ5_init_3 47 = .ok (.aload_n 2, 1) := dk_44 (dk_at dksJ5_init_3_2 0 rfl rfl)
theorem dJ5_init_3_48 : decode cJ5_init_3 48 = .ok (.putfield 7, 3) := dk_181 0 7 (dk_at dksJ5_init_3_2 1 rfl rfl)
theorem dJ5_init_3_51 : decode cJ5_init_3 51 = .ok (.iload_n 3, 1) := dk_29 (dk_at dksJ5_init_3_2 4 rfl rfl)
theorem dJ5_init_3_52 : decode cJ5_init_3 52 = .ok (.ifCond .ne 8, 3) := dk_154 0 8 (dk_at dksJ5_init_3_2 5 rfl rfl)
theorem dJ5_init_3_55 : decode cJ5_init_3 55 = .ok (.aload_n 0, 1) := dk_42 (dk_at dksJ5_init_3_2 8 rfl rfl)
theorem dJ5_init_3_56 : decode cJ5_init_3 56 = .ok (.aconst_null, 1) := dk_1 (dk_at dksJ5_init_3_2 9 rfl rfl)
theorem dJ5_init_3_57 : decode cJ5_init_3 57 = .ok (.putfield 24, 3) := dk_181 0 24 (dk_at dksJ5_init_3_2 10 rfl rfl)
theorem dJ5_init_3_60 : decode cJ5_init_3 60 = .ok (.return_, 1) := dk_177 (dk_at dksJ5_init_3_2 13 rfl rfl)
abbrev cJ5_init_4 : ByteArray := prog_51_method_4_code
def yJ5_init_4 : MethodName := ⟨RJ5, "<init>", "(Ljava/lang/Throwable;)V"⟩
def dkwJ5_init_4_2 : List UInt8 := [181, 0, 7, 177]
abbrev dktJ5_init_4_2 : List UInt8 := dkwJ5_init_4_2 ++ []
def dkwJ5_init_4_1 : List UInt8 := [182, 0, 27, 87, 42, 43, 199, 0, 7, 1, 167, 0, 7, 43, 182, 0, 35, 181, 0, 31, 42, 43]
abbrev dktJ5_init_4_1 : List UInt8 := dkwJ5_init_4_1 ++ dktJ5_init_4_2
def dkwJ5_init_4_0 : List UInt8 := [42, 183, 0, 1, 42, 42, 181, 0, 7, 42, 178, 0, 13, 181, 0, 17, 42, 178, 0, 20, 181, 0, 24, 42]
abbrev dktJ5_init_4_0 : List UInt8 := dkwJ5_init_4_0 ++ dktJ5_init_4_1
theorem dksJ5_init_4_0 : cJ5_init_4.data.toList.drop 0 = dktJ5_init_4_0 := by decide +kernel
theorem dksJ5_init_4_1 : cJ5_init_4.data.toList.drop 24 = dktJ5_init_4_1 := dk_seg dksJ5_init_4_0 24 rfl rfl
theorem dksJ5_init_4_2 : cJ5_init_4.data.toList.drop 46 = dktJ5_init_4_2 := dk_seg dksJ5_init_4_1 22 rfl rfl
theorem dJ5_init_4_0 : decode cJ5_init_4 0 = .ok (.aload_n 0, 1) := dk_42 (dk_at dksJ5_init_4_0 0 rfl rfl)
theorem dJ5_init_4_1 : decode cJ5_init_4 1 = .ok (.invokespecial 1, 3) := dk_183 0 1 (dk_at dksJ5_init_4_0 1 rfl rfl)
theorem dJ5_init_4_4 : decode cJ5_init_4 4 = .ok (.aload_n 0, 1) := dk_42 (dk_at dksJ5_init_4_0 4 rfl rfl)
theorem dJ5_init_4_5 : decode cJ5_init_4 5 = .ok (.aload_n 0, 1) := dk_42 (dk_at dksJ5_init_4_0 5 rfl rfl)
theorem dJ5_init_4_6 : decode cJ5_init_4 6 = .ok (.putfield 7, 3) := dk_181 0 7 (dk_at dksJ5_init_4_0 6 rfl rfl)
theorem dJ5_init_4_9 : decode cJ5_init_4 9 = .ok (.aload_n 0, 1) := dk_42 (dk_at dksJ5_init_4_0 9 rfl rfl)
theorem dJ5_init_4_10 : decode cJ5_init_4 10 = .ok (.getstatic 13, 3) := dk_178 0 13 (dk_at dksJ5_init_4_0 10 rfl rfl)
theorem dJ5_init_4_13 : decode cJ5_init_4 13 = .ok (.putfield 17, 3) := dk_181 0 17 (dk_at dksJ5_init_4_0 13 rfl rfl)
theorem dJ5_init_4_16 : decode cJ5_init_4 16 = .ok (.aload_n 0, 1) := dk_42 (dk_at dksJ5_init_4_0 16 rfl rfl)
theorem dJ5_init_4_17 : decode cJ5_init_4 17 = .ok (.getstatic 20, 3) := dk_178 0 20 (dk_at dksJ5_init_4_0 17 rfl rfl)
theorem dJ5_init_4_20 : decode cJ5_init_4 20 = .ok (.putfield 24, 3) := dk_181 0 24 (dk_at dksJ5_init_4_0 20 rfl rfl)
theorem dJ5_init_4_23 : decode cJ5_init_4 23 = .ok (.aload_n 0, 1) := dk_42 (dk_at dksJ5_init_4_0 23 rfl rfl)
theorem dJ5_init_4_24 : decode cJ5_init_4 24 = .ok (.invokevirtual 27, 3) := dk_182 0 27 (dk_at dksJ5_init_4_1 0 rfl rfl)
theorem dJ5_init_4_27 : decode cJ5_init_4 27 = .ok (.pop, 1) := dk_87 (dk_at dksJ5_init_4_1 3 rfl rfl)
theorem dJ5_init_4_28 : decode cJ5_init_4 28 = .ok (.aload_n 0, 1) := dk_42 (dk_at dksJ5_init_4_1 4 rfl rfl)
theorem dJ5_init_4_29 : decode cJ5_init_4 29 = .ok (.aload_n 1, 1) := dk_43 (dk_at dksJ5_init_4_1 5 rfl rfl)
theorem dJ5_init_4_30 : decode cJ5_init_4 30 = .ok (.ifnonnull 7, 3) := dk_199 0 7 (dk_at dksJ5_init_4_1 6 rfl rfl)
theorem dJ5_init_4_33 : decode cJ5_init_4 33 = .ok (.aconst_null, 1) := dk_1 (dk_at dksJ5_init_4_1 9 rfl rfl)
theorem dJ5_init_4_34 : decode cJ5_init_4 34 = .ok (.goto 7, 3) := dk_167 0 7 (dk_at dksJ5_init_4_1 10 rfl rfl)
theorem dJ5_init_4_37 : decode cJ5_init_4 37 = .ok (.aload_n 1, 1) := dk_43 (dk_at dksJ5_init_4_1 13 rfl rfl)
theorem dJ5_init_4_38 : decode cJ5_init_4 38 = .ok (.invokevirtual 35, 3) := dk_182 0 35 (dk_at dksJ5_init_4_1 14 rfl rfl)
theorem dJ5_init_4_41 : decode cJ5_init_4 41 = .ok (.putfield 31, 3) := dk_181 0 31 (dk_at dksJ5_init_4_1 17 rfl rfl)
theorem dJ5_init_4_44 : decode cJ5_init_4 44 = .ok (.aload_n 0, 1) := dk_42 (dk_at dksJ5_init_4_1 20 rfl rfl)
theorem dJ5_init_4_45 : decode cJ5_init_4 45 = .ok (.aload_n 1, 1) := dk_43 (dk_at dksJ5_init_4_1 21 rfl rfl)
theorem dJ5_init_4_46 : decode cJ5_init_4 46 = .ok (.putfield 7, 3) := dk_181 0 7 (dk_at dksJ5_init_4_2 0 rfl rfl)
theorem dJ5_init_4_49 : decode cJ5_init_4 49 = .ok (.return_, 1) := dk_177 (dk_at dksJ5_init_4_2 3 rfl rfl)
abbrev cJ5_toString : ByteArray := prog_51_method_11_code
def yJ5_toString : MethodName := ⟨RJ5, "toString", "()Ljava/lang/String;"⟩
def dkwJ5_toString_1 : List UInt8 := [43, 182, 0, 49, 18, 81, 182, 0, 49, 44, 182, 0, 49, 182, 0, 60, 167, 0, 4, 43, 176]
abbrev dktJ5_toString_1 : List UInt8 := dkwJ5_toString_1 ++ []
def dkwJ5_toString_0 : List UInt8 := [42, 182, 0, 69, 182, 0, 73, 76, 42, 182, 0, 78, 77, 44, 198, 0, 29, 187, 0, 44, 89, 183, 0, 46]
abbrev dktJ5_toString_0 : List UInt8 := dkwJ5_toString_0 ++ dktJ5_toString_1
theorem dksJ5_toString_0 : cJ5_toString.data.toList.drop 0 = dktJ5_toString_0 := by decide +kernel
theorem dksJ5_toString_1 : cJ5_toString.data.toList.drop 24 = dktJ5_toString_1 := dk_seg dksJ5_toString_0 24 rfl rfl
theorem dJ5_toString_0 : decode cJ5_toString 0 = .ok (.aload_n 0, 1) := dk_42 (dk_at dksJ5_toString_0 0 rfl rfl)
theorem dJ5_toString_1 : decode cJ5_toString 1 = .ok (.invokevirtual 69, 3) := dk_182 0 69 (dk_at dksJ5_toString_0 1 rfl rfl)
theorem dJ5_toString_4 : decode cJ5_toString 4 = .ok (.invokevirtual 73, 3) := dk_182 0 73 (dk_at dksJ5_toString_0 4 rfl rfl)
theorem dJ5_toString_7 : decode cJ5_toString 7 = .ok (.astore_n 1, 1) := dk_76 (dk_at dksJ5_toString_0 7 rfl rfl)
theorem dJ5_toString_8 : decode cJ5_toString 8 = .ok (.aload_n 0, 1) := dk_42 (dk_at dksJ5_toString_0 8 rfl rfl)
theorem dJ5_toString_9 : decode cJ5_toString 9 = .ok (.invokevirtual 78, 3) := dk_182 0 78 (dk_at dksJ5_toString_0 9 rfl rfl)
theorem dJ5_toString_12 : decode cJ5_toString 12 = .ok (.astore_n 2, 1) := dk_77 (dk_at dksJ5_toString_0 12 rfl rfl)
theorem dJ5_toString_13 : decode cJ5_toString 13 = .ok (.aload_n 2, 1) := dk_44 (dk_at dksJ5_toString_0 13 rfl rfl)
theorem dJ5_toString_14 : decode cJ5_toString 14 = .ok (.ifnull 29, 3) := dk_198 0 29 (dk_at dksJ5_toString_0 14 rfl rfl)
theorem dJ5_toString_17 : decode cJ5_toString 17 = .ok (.new 44, 3) := dk_187 0 44 (dk_at dksJ5_toString_0 17 rfl rfl)
theorem dJ5_toString_20 : decode cJ5_toString 20 = .ok (.dup, 1) := dk_89 (dk_at dksJ5_toString_0 20 rfl rfl)
theorem dJ5_toString_21 : decode cJ5_toString 21 = .ok (.invokespecial 46, 3) := dk_183 0 46 (dk_at dksJ5_toString_0 21 rfl rfl)
theorem dJ5_toString_24 : decode cJ5_toString 24 = .ok (.aload_n 1, 1) := dk_43 (dk_at dksJ5_toString_1 0 rfl rfl)
theorem dJ5_toString_25 : decode cJ5_toString 25 = .ok (.invokevirtual 49, 3) := dk_182 0 49 (dk_at dksJ5_toString_1 1 rfl rfl)
theorem dJ5_toString_28 : decode cJ5_toString 28 = .ok (.ldc 81, 2) := dk_18 81 (dk_at dksJ5_toString_1 4 rfl rfl)
theorem dJ5_toString_30 : decode cJ5_toString 30 = .ok (.invokevirtual 49, 3) := dk_182 0 49 (dk_at dksJ5_toString_1 6 rfl rfl)
theorem dJ5_toString_33 : decode cJ5_toString 33 = .ok (.aload_n 2, 1) := dk_44 (dk_at dksJ5_toString_1 9 rfl rfl)
theorem dJ5_toString_34 : decode cJ5_toString 34 = .ok (.invokevirtual 49, 3) := dk_182 0 49 (dk_at dksJ5_toString_1 10 rfl rfl)
theorem dJ5_toString_37 : decode cJ5_toString 37 = .ok (.invokevirtual 60, 3) := dk_182 0 60 (dk_at dksJ5_toString_1 13 rfl rfl)
theorem dJ5_toString_40 : decode cJ5_toString 40 = .ok (.goto 4, 3) := dk_167 0 4 (dk_at dksJ5_toString_1 16 rfl rfl)
theorem dJ5_toString_43 : decode cJ5_toString 43 = .ok (.aload_n 1, 1) := dk_43 (dk_at dksJ5_toString_1 19 rfl rfl)
theorem dJ5_toString_44 : decode cJ5_toString 44 = .ok (.areturn, 1) := dk_176 (dk_at dksJ5_toString_1 20 rfl rfl)
abbrev cJ5_getLocalizedMessage : ByteArray := prog_51_method_7_code
def yJ5_getLocalizedMessage : MethodName := ⟨RJ5, "getLocalizedMessage", "()Ljava/lang/String;"⟩
theorem dJ5_getLocalizedMessage_0 : decode cJ5_getLocalizedMessage 0 = .ok (.aload_n 0, 1) := by decide +kernel
theorem dJ5_getLocalizedMessage_1 : decode cJ5_getLocalizedMessage 1 = .ok (.invokevirtual 39, 3) := by decide +kernel
theorem dJ5_getLocalizedMessage_4 : decode cJ5_getLocalizedMessage 4 = .ok (.areturn, 1) := by decide +kernel
abbrev cJ5_getMessage : ByteArray := prog_51_method_6_code
def yJ5_getMessage : MethodName := ⟨RJ5, "getMessage", "()Ljava/lang/String;"⟩
theorem dJ5_getMessage_0 : decode cJ5_getMessage 0 = .ok (.aload_n 0, 1) := by decide +kernel
theorem dJ5_getMessage_1 : decode cJ5_getMessage 1 = .ok (.getfield 31, 3) := by decide +kernel
theorem dJ5_getMessage_4 : decode cJ5_getMessage 4 = .ok (.areturn, 1) := by decide +kernel
theorem q106 : (Jvm.Cond.initialized "java/lang/Throwable") ∈ lw_all := lw_g (lw_at lw_m1 10 rfl) rfl
theorem q311 : (Jvm.Cond.instanceMethod ({ cls := "java/lang/Throwable", name := "<init>", desc := "(Ljava/lang/String;)V" } : Jvm.MethodName)) ∈ lw_all := lw_g (lw_at lw_m1 215 rfl) rfl
theorem q312 : (Jvm.Cond.code ({ cls := "java/lang/Throwable", name := "<init>", desc := "(Ljava/lang/String;)V" } : Jvm.MethodName) prog_51_method_2_code (2 : Nat) (Option.none : Option Jvm.ClassFile.FieldType)) ∈ lw_all := lw_g (lw_at lw_m1 216 rfl) rfl
theorem q313 : (Jvm.Cond.methodLink "java/lang/Throwable" (1 : Nat) ({ cls := "java/lang/Object", name := "<init>", desc := "()V" } : Jvm.MethodName)) ∈ lw_all := lw_g (lw_at lw_m1 217 rfl) rfl
theorem q314 : (Jvm.Cond.fieldLink "java/lang/Throwable" (13 : Nat) "java/lang/Throwable" "UNASSIGNED_STACK" "[Ljava/lang/StackTraceElement;") ∈ lw_all := lw_g (lw_at lw_m1 218 rfl) rfl
theorem q315 : (Jvm.Cond.laysStatic "java/lang/Throwable" "UNASSIGNED_STACK" "[Ljava/lang/StackTraceElement;") ∈ lw_tbl := lw_at lw_m1 219 rfl
theorem q316 : (Jvm.Cond.fieldLink "java/lang/Throwable" (20 : Nat) "java/lang/Throwable" "SUPPRESSED_SENTINEL" "Ljava/util/List;") ∈ lw_all := lw_g (lw_at lw_m1 220 rfl) rfl
theorem q317 : (Jvm.Cond.laysStatic "java/lang/Throwable" "SUPPRESSED_SENTINEL" "Ljava/util/List;") ∈ lw_tbl := lw_at lw_m1 221 rfl
theorem q318 : (Jvm.Cond.methodLink "java/lang/Throwable" (27 : Nat) ({ cls := "java/lang/Throwable", name := "fillInStackTrace", desc := "()Ljava/lang/Throwable;" } : Jvm.MethodName)) ∈ lw_all := lw_g (lw_at lw_m1 222 rfl) rfl
theorem q319 : (Jvm.Cond.instanceMethod ({ cls := "java/lang/Throwable", name := "fillInStackTrace", desc := "()Ljava/lang/Throwable;" } : Jvm.MethodName)) ∈ lw_all := lw_g (lw_at lw_m1 223 rfl) rfl
theorem q320 : (Jvm.Cond.sameMethod "java/lang/Throwable" "java/lang/Throwable" "fillInStackTrace" "()Ljava/lang/Throwable;") ∈ lw_all := lw_g (lw_at lw_m1 224 rfl) rfl
theorem q339 : (Jvm.Cond.declares ({ cls := "java/lang/Throwable", name := "fillInStackTrace", desc := "()Ljava/lang/Throwable;" } : Jvm.MethodName)) ∈ lw_tbl := lw_at lw_m2 3 rfl
theorem q343 : (Jvm.Cond.codeSync ({ cls := "java/lang/Throwable", name := "fillInStackTrace", desc := "()Ljava/lang/Throwable;" } : Jvm.MethodName) prog_51_method_18_code (1 : Nat) (Option.some (Jvm.ClassFile.FieldType.object "java/lang/Throwable"))) ∈ lw_all := lw_g (lw_at lw_m2 7 rfl) rfl
theorem q344 : (Jvm.Cond.methodLink "java/lang/Throwable" (202 : Nat) ({ cls := "java/lang/Throwable", name := "fillInStackTrace", desc := "(I)Ljava/lang/Throwable;" } : Jvm.MethodName)) ∈ lw_all := lw_g (lw_at lw_m2 8 rfl) rfl
theorem q345 : (Jvm.Cond.privateMethod ({ cls := "java/lang/Throwable", name := "fillInStackTrace", desc := "(I)Ljava/lang/Throwable;" } : Jvm.MethodName)) ∈ lw_tbl := lw_at lw_m2 9 rfl
theorem q346 : (Jvm.Cond.instanceMethod ({ cls := "java/lang/Throwable", name := "fillInStackTrace", desc := "(I)Ljava/lang/Throwable;" } : Jvm.MethodName)) ∈ lw_all := lw_g (lw_at lw_m2 10 rfl) rfl
theorem q347 : (Jvm.Cond.instantiable "java/lang/Throwable" (6 : Nat)) ∈ lw_all := lw_g (lw_at lw_m2 11 rfl) rfl
theorem q348 : (Jvm.Cond.native ({ cls := "java/lang/Throwable", name := "fillInStackTrace", desc := "(I)Ljava/lang/Throwable;" } : Jvm.MethodName)) ∈ lw_all := lw_g (lw_at lw_m2 12 rfl) rfl
theorem q351 : (Jvm.Cond.fieldLink "java/lang/Throwable" (198 : Nat) "java/lang/Throwable" "backtrace" "Ljava/lang/Object;") ∈ lw_all := lw_g (lw_at lw_m2 15 rfl) rfl
theorem q352 : (Jvm.Cond.fieldLink "java/lang/Throwable" (31 : Nat) "java/lang/Throwable" "detailMessage" "Ljava/lang/String;") ∈ lw_all := lw_g (lw_at lw_m2 16 rfl) rfl
theorem q353 : (Jvm.Cond.fieldLink "java/lang/Throwable" (7 : Nat) "java/lang/Throwable" "cause" "Ljava/lang/Throwable;") ∈ lw_all := lw_g (lw_at lw_m2 17 rfl) rfl
theorem q354 : (Jvm.Cond.fieldLink "java/lang/Throwable" (17 : Nat) "java/lang/Throwable" "stackTrace" "[Ljava/lang/StackTraceElement;") ∈ lw_all := lw_g (lw_at lw_m2 18 rfl) rfl
theorem q355 : (Jvm.Cond.fieldLink "java/lang/Throwable" (24 : Nat) "java/lang/Throwable" "suppressedExceptions" "Ljava/util/List;") ∈ lw_all := lw_g (lw_at lw_m2 19 rfl) rfl
theorem q357 : (Jvm.Cond.soleField "java/lang/Throwable" "backtrace") ∈ lw_all := lw_g (lw_at lw_m2 21 rfl) rfl
theorem q359 : (Jvm.Cond.soleField "java/lang/Throwable" "detailMessage") ∈ lw_all := lw_g (lw_at lw_m2 23 rfl) rfl
theorem q361 : (Jvm.Cond.soleField "java/lang/Throwable" "cause") ∈ lw_all := lw_g (lw_at lw_m2 25 rfl) rfl
theorem q363 : (Jvm.Cond.soleField "java/lang/Throwable" "stackTrace") ∈ lw_all := lw_g (lw_at lw_m2 27 rfl) rfl
theorem q365 : (Jvm.Cond.soleField "java/lang/Throwable" "depth") ∈ lw_all := lw_g (lw_at lw_m2 29 rfl) rfl
theorem q367 : (Jvm.Cond.soleField "java/lang/Throwable" "suppressedExceptions") ∈ lw_all := lw_g (lw_at lw_m2 31 rfl) rfl
theorem q374 : (Jvm.Cond.declares ({ cls := "java/lang/Throwable", name := "<init>", desc := "()V" } : Jvm.MethodName)) ∈ lw_tbl := lw_at lw_m2 38 rfl
theorem q375 : (Jvm.Cond.declares ({ cls := "java/lang/Throwable", name := "<init>", desc := "(Ljava/lang/String;)V" } : Jvm.MethodName)) ∈ lw_tbl := lw_at lw_m2 39 rfl
theorem q377 : (Jvm.Cond.lays "java/lang/Throwable" "java/lang/Throwable" "cause" "Ljava/lang/Throwable;") ∈ lw_all := lw_g (lw_at lw_m2 41 rfl) rfl
theorem q378 : (Jvm.Cond.lays "java/lang/Throwable" "java/lang/Throwable" "stackTrace" "[Ljava/lang/StackTraceElement;") ∈ lw_all := lw_g (lw_at lw_m2 42 rfl) rfl
theorem q379 : (Jvm.Cond.lays "java/lang/Throwable" "java/lang/Throwable" "suppressedExceptions" "Ljava/util/List;") ∈ lw_all := lw_g (lw_at lw_m2 43 rfl) rfl
theorem q380 : (Jvm.Cond.lays "java/lang/Throwable" "java/lang/Throwable" "detailMessage" "Ljava/lang/String;") ∈ lw_all := lw_g (lw_at lw_m2 44 rfl) rfl
theorem q381 : (Jvm.Cond.lays "java/lang/Throwable" "java/lang/Throwable" "backtrace" "Ljava/lang/Object;") ∈ lw_all := lw_g (lw_at lw_m2 45 rfl) rfl
theorem q382 : (Jvm.Cond.fieldLink "java/lang/Throwable" (198 : Nat) "java/lang/Throwable" "backtrace" "Ljava/lang/Object;") ∈ lw_all := lw_g (lw_at lw_m2 46 rfl) rfl
theorem q383 : (Jvm.Cond.superclass "java/lang/Throwable" "java/lang/Object") ∈ lw_all := lw_g (lw_at lw_m2 47 rfl) rfl
theorem q384 : (Jvm.Cond.instanceMethod ({ cls := "java/lang/Throwable", name := "<init>", desc := "()V" } : Jvm.MethodName)) ∈ lw_all := lw_g (lw_at lw_m2 48 rfl) rfl
theorem q385 : (Jvm.Cond.code ({ cls := "java/lang/Throwable", name := "<init>", desc := "()V" } : Jvm.MethodName) prog_51_method_1_code (1 : Nat) (Option.none : Option Jvm.ClassFile.FieldType)) ∈ lw_all := lw_g (lw_at lw_m2 49 rfl) rfl
theorem q455 : (Jvm.Cond.instanceMethod ({ cls := "java/lang/Throwable", name := "<init>", desc := "(Ljava/lang/String;Ljava/lang/Throwable;ZZ)V" } : Jvm.MethodName)) ∈ lw_all := lw_g (lw_at lw_m2 119 rfl) rfl
theorem q456 : (Jvm.Cond.code ({ cls := "java/lang/Throwable", name := "<init>", desc := "(Ljava/lang/String;Ljava/lang/Throwable;ZZ)V" } : Jvm.MethodName) prog_51_method_5_code (5 : Nat) (Option.none : Option Jvm.ClassFile.FieldType)) ∈ lw_all := lw_g (lw_at lw_m2 120 rfl) rfl
theorem q1401 : (Jvm.Cond.instanceMethod ({ cls := "java/lang/Throwable", name := "<init>", desc := "(Ljava/lang/Throwable;)V" } : Jvm.MethodName)) ∈ lw_all := lw_g (lw_at lw_m6 105 rfl) rfl
theorem q1402 : (Jvm.Cond.code ({ cls := "java/lang/Throwable", name := "<init>", desc := "(Ljava/lang/Throwable;)V" } : Jvm.MethodName) prog_51_method_4_code (2 : Nat) (Option.none : Option Jvm.ClassFile.FieldType)) ∈ lw_all := lw_g (lw_at lw_m6 106 rfl) rfl
theorem q1403 : (Jvm.Cond.methodLink "java/lang/Throwable" (35 : Nat) ({ cls := "java/lang/Throwable", name := "toString", desc := "()Ljava/lang/String;" } : Jvm.MethodName)) ∈ lw_all := lw_g (lw_at lw_m6 107 rfl) rfl
theorem q1404 : (Jvm.Cond.instanceMethod ({ cls := "java/lang/Throwable", name := "toString", desc := "()Ljava/lang/String;" } : Jvm.MethodName)) ∈ lw_all := lw_g (lw_at lw_m6 108 rfl) rfl
theorem q1405 : (Jvm.Cond.sameMethod "java/lang/Throwable" "java/lang/Throwable" "toString" "()Ljava/lang/String;") ∈ lw_all := lw_g (lw_at lw_m6 109 rfl) rfl
theorem q1417 : (Jvm.Cond.code ({ cls := "java/lang/Throwable", name := "toString", desc := "()Ljava/lang/String;" } : Jvm.MethodName) prog_51_method_11_code (3 : Nat) (Option.some (Jvm.ClassFile.FieldType.object "java/lang/String"))) ∈ lw_all := lw_g (lw_at lw_m6 121 rfl) rfl
theorem q1418 : (Jvm.Cond.methodLink "java/lang/Throwable" (69 : Nat) ({ cls := "java/lang/Object", name := "getClass", desc := "()Ljava/lang/Class;" } : Jvm.MethodName)) ∈ lw_all := lw_g (lw_at lw_m6 122 rfl) rfl
theorem q1419 : (Jvm.Cond.methodLink "java/lang/Throwable" (78 : Nat) ({ cls := "java/lang/Throwable", name := "getLocalizedMessage", desc := "()Ljava/lang/String;" } : Jvm.MethodName)) ∈ lw_all := lw_g (lw_at lw_m6 123 rfl) rfl
theorem q1420 : (Jvm.Cond.instanceMethod ({ cls := "java/lang/Throwable", name := "getLocalizedMessage", desc := "()Ljava/lang/String;" } : Jvm.MethodName)) ∈ lw_all := lw_g (lw_at lw_m6 124 rfl) rfl
theorem q1421 : (Jvm.Cond.sameMethod "java/lang/Throwable" "java/lang/Throwable" "getLocalizedMessage" "()Ljava/lang/String;") ∈ lw_all := lw_g (lw_at lw_m6 125 rfl) rfl
theorem q1433 : (Jvm.Cond.code ({ cls := "java/lang/Throwable", name := "getLocalizedMessage", desc := "()Ljava/lang/String;" } : Jvm.MethodName) prog_51_method_7_code (1 : Nat) (Option.some (Jvm.ClassFile.FieldType.object "java/lang/String"))) ∈ lw_all := lw_g (lw_at lw_m6 137 rfl) rfl
theorem q1434 : (Jvm.Cond.methodLink "java/lang/Throwable" (39 : Nat) ({ cls := "java/lang/Throwable", name := "getMessage", desc := "()Ljava/lang/String;" } : Jvm.MethodName)) ∈ lw_all := lw_g (lw_at lw_m6 138 rfl) rfl
theorem q1435 : (Jvm.Cond.instanceMethod ({ cls := "java/lang/Throwable", name := "getMessage", desc := "()Ljava/lang/String;" } : Jvm.MethodName)) ∈ lw_all := lw_g (lw_at lw_m6 139 rfl) rfl
theorem q1436 : (Jvm.Cond.sameMethod "java/lang/Throwable" "java/lang/Throwable" "getMessage" "()Ljava/lang/String;") ∈ lw_all := lw_g (lw_at lw_m6 140 rfl) rfl
theorem q1450 : (Jvm.Cond.declares ({ cls := "java/lang/Throwable", name := "getMessage", desc := "()Ljava/lang/String;" } : Jvm.MethodName)) ∈ lw_tbl := lw_at lw_m6 154 rfl
theorem q1451 : (Jvm.Cond.code ({ cls := "java/lang/Throwable", name := "getMessage", desc := "()Ljava/lang/String;" } : Jvm.MethodName) prog_51_method_6_code (1 : Nat) (Option.some (Jvm.ClassFile.FieldType.object "java/lang/String"))) ∈ lw_all := lw_g (lw_at lw_m6 155 rfl) rfl
theorem q1454 : (Jvm.Cond.classLink "java/lang/Throwable" (44 : Nat) "java/lang/StringBuilder") ∈ lw_all := lw_g (lw_at lw_m6 158 rfl) rfl
theorem q1455 : (Jvm.Cond.methodLink "java/lang/Throwable" (46 : Nat) ({ cls := "java/lang/StringBuilder", name := "<init>", desc := "()V" } : Jvm.MethodName)) ∈ lw_all := lw_g (lw_at lw_m6 159 rfl) rfl
theorem q1456 : (Jvm.Cond.methodLink "java/lang/Throwable" (49 : Nat) ({ cls := "java/lang/StringBuilder", name := "append", desc := "(Ljava/lang/String;)Ljava/lang/StringBuilder;" } : Jvm.MethodName)) ∈ lw_all := lw_g (lw_at lw_m6 160 rfl) rfl
theorem q1457 : (Jvm.Cond.stringRef "java/lang/Throwable" (81 : Nat) ": ") ∈ lw_tbl := lw_at lw_m6 161 rfl
theorem q1458 : (Jvm.Cond.methodLink "java/lang/Throwable" (60 : Nat) ({ cls := "java/lang/StringBuilder", name := "toString", desc := "()Ljava/lang/String;" } : Jvm.MethodName)) ∈ lw_all := lw_g (lw_at lw_m6 162 rfl) rfl
theorem q3286 : (Jvm.Cond.sameMethod "java/lang/Throwable" "java/lang/Throwable" "fillInStackTrace" "(I)Ljava/lang/Throwable;") ∈ lw_all := lw_g (lw_at lw_m14 70 rfl) rfl
theorem q3353 : (Jvm.Cond.castable "java/lang/Throwable" "java/lang/Object") ∈ lw_tbl := lw_at lw_m14 137 rfl
theorem in_J5 : ∀ w ∈ wsJ50, w ∈ lw_all := lw_in wsJ50 [377, 378, 379, 380, 381] (by decide +kernel) (by decide +kernel)
/-! java/lang/Exception -/
set_option maxRecDepth 100000
def RJ6 : String := "java/lang/Exception"
abbrev cJ6_init : ByteArray := prog_34_method_2_code
def yJ6_init : MethodName := ⟨RJ6, "<init>", "(Ljava/lang/String;)V"⟩
def dkwJ6_init_0 : List UInt8 := [42, 43, 183, 0, 7, 177]
abbrev dktJ6_init_0 : List UInt8 := dkwJ6_init_0 ++ []
theorem dksJ6_init_0 : cJ6_init.data.toList.drop 0 = dktJ6_init_0 := by decide +kernel
theorem dJ6_init_0 : decode cJ6_init 0 = .ok (.aload_n 0, 1) := dk_42 (dk_at dksJ6_init_0 0 rfl rfl)
theorem dJ6_init_1 : decode cJ6_init 1 = .ok (.aload_n 1, 1) := dk_43 (dk_at dksJ6_init_0 1 rfl rfl)
theorem dJ6_init_2 : decode cJ6_init 2 = .ok (.invokespecial 7, 3) := dk_183 0 7 (dk_at dksJ6_init_0 2 rfl rfl)
theorem dJ6_init_5 : decode cJ6_init 5 = .ok (.return_, 1) := dk_177 (dk_at dksJ6_init_0 5 rfl rfl)
abbrev cJ6_init_2 : ByteArray := prog_34_method_5_code
def yJ6_init_2 : MethodName := ⟨RJ6, "<init>", "(Ljava/lang/String;Ljava/lang/Throwable;ZZ)V"⟩
def dkwJ6_init_2_0 : List UInt8 := [42, 43, 44, 29, 21, 4, 183, 0, 16, 177]
abbrev dktJ6_init_2_0 : List UInt8 := dkwJ6_init_2_0 ++ []
theorem dksJ6_init_2_0 : cJ6_init_2.data.toList.drop 0 = dktJ6_init_2_0 := by decide +kernel
theorem dJ6_init_2_0 : decode cJ6_init_2 0 = .ok (.aload_n 0, 1) := dk_42 (dk_at dksJ6_init_2_0 0 rfl rfl)
theorem dJ6_init_2_1 : decode cJ6_init_2 1 = .ok (.aload_n 1, 1) := dk_43 (dk_at dksJ6_init_2_0 1 rfl rfl)
theorem dJ6_init_2_2 : decode cJ6_init_2 2 = .ok (.aload_n 2, 1) := dk_44 (dk_at dksJ6_init_2_0 2 rfl rfl)
theorem dJ6_init_2_3 : decode cJ6_init_2 3 = .ok (.iload_n 3, 1) := dk_29 (dk_at dksJ6_init_2_0 3 rfl rfl)
theorem dJ6_init_2_4 : decode cJ6_init_2 4 = .ok (.iload 4, 2) := dk_21 4 (dk_at dksJ6_init_2_0 4 rfl rfl)
theorem dJ6_init_2_6 : decode cJ6_init_2 6 = .ok (.invokespecial 16, 3) := dk_183 0 16 (dk_at dksJ6_init_2_0 6 rfl rfl)
theorem dJ6_init_2_9 : decode cJ6_init_2 9 = .ok (.return_, 1) := dk_177 (dk_at dksJ6_init_2_0 9 rfl rfl)
abbrev cJ6_init_3 : ByteArray := prog_34_method_1_code
def yJ6_init_3 : MethodName := ⟨RJ6, "<init>", "()V"⟩
theorem dJ6_init_3_0 : decode cJ6_init_3 0 = .ok (.aload_n 0, 1) := by decide +kernel
theorem dJ6_init_3_1 : decode cJ6_init_3 1 = .ok (.invokespecial 1, 3) := by decide +kernel
theorem dJ6_init_3_4 : decode cJ6_init_3 4 = .ok (.return_, 1) := by decide +kernel
abbrev cJ6_init_4 : ByteArray := prog_34_method_4_code
def yJ6_init_4 : MethodName := ⟨RJ6, "<init>", "(Ljava/lang/Throwable;)V"⟩
def dkwJ6_init_4_0 : List UInt8 := [42, 43, 183, 0, 13, 177]
abbrev dktJ6_init_4_0 : List UInt8 := dkwJ6_init_4_0 ++ []
theorem dksJ6_init_4_0 : cJ6_init_4.data.toList.drop 0 = dktJ6_init_4_0 := by decide +kernel
theorem dJ6_init_4_0 : decode cJ6_init_4 0 = .ok (.aload_n 0, 1) := dk_42 (dk_at dksJ6_init_4_0 0 rfl rfl)
theorem dJ6_init_4_1 : decode cJ6_init_4 1 = .ok (.aload_n 1, 1) := dk_43 (dk_at dksJ6_init_4_0 1 rfl rfl)
theorem dJ6_init_4_2 : decode cJ6_init_4 2 = .ok (.invokespecial 13, 3) := dk_183 0 13 (dk_at dksJ6_init_4_0 2 rfl rfl)
theorem dJ6_init_4_5 : decode cJ6_init_4 5 = .ok (.return_, 1) := dk_177 (dk_at dksJ6_init_4_0 5 rfl rfl)
theorem q107 : (Jvm.Cond.initialized "java/lang/Exception") ∈ lw_all := lw_g (lw_at lw_m1 11 rfl) rfl
theorem q308 : (Jvm.Cond.instanceMethod ({ cls := "java/lang/Exception", name := "<init>", desc := "(Ljava/lang/String;)V" } : Jvm.MethodName)) ∈ lw_all := lw_g (lw_at lw_m1 212 rfl) rfl
theorem q309 : (Jvm.Cond.code ({ cls := "java/lang/Exception", name := "<init>", desc := "(Ljava/lang/String;)V" } : Jvm.MethodName) prog_34_method_2_code (2 : Nat) (Option.none : Option Jvm.ClassFile.FieldType)) ∈ lw_all := lw_g (lw_at lw_m1 213 rfl) rfl
theorem q310 : (Jvm.Cond.methodLink "java/lang/Exception" (7 : Nat) ({ cls := "java/lang/Throwable", name := "<init>", desc := "(Ljava/lang/String;)V" } : Jvm.MethodName)) ∈ lw_all := lw_g (lw_at lw_m1 214 rfl) rfl
theorem q342 : (Jvm.Cond.superclass "java/lang/Exception" "java/lang/Throwable") ∈ lw_all := lw_g (lw_at lw_m2 6 rfl) rfl
theorem q372 : (Jvm.Cond.declares ({ cls := "java/lang/Exception", name := "<init>", desc := "()V" } : Jvm.MethodName)) ∈ lw_tbl := lw_at lw_m2 36 rfl
theorem q373 : (Jvm.Cond.declares ({ cls := "java/lang/Exception", name := "<init>", desc := "(Ljava/lang/String;)V" } : Jvm.MethodName)) ∈ lw_tbl := lw_at lw_m2 37 rfl
theorem q452 : (Jvm.Cond.instanceMethod ({ cls := "java/lang/Exception", name := "<init>", desc := "(Ljava/lang/String;Ljava/lang/Throwable;ZZ)V" } : Jvm.MethodName)) ∈ lw_all := lw_g (lw_at lw_m2 116 rfl) rfl
theorem q453 : (Jvm.Cond.code ({ cls := "java/lang/Exception", name := "<init>", desc := "(Ljava/lang/String;Ljava/lang/Throwable;ZZ)V" } : Jvm.MethodName) prog_34_method_5_code (5 : Nat) (Option.none : Option Jvm.ClassFile.FieldType)) ∈ lw_all := lw_g (lw_at lw_m2 117 rfl) rfl
theorem q454 : (Jvm.Cond.methodLink "java/lang/Exception" (16 : Nat) ({ cls := "java/lang/Throwable", name := "<init>", desc := "(Ljava/lang/String;Ljava/lang/Throwable;ZZ)V" } : Jvm.MethodName)) ∈ lw_all := lw_g (lw_at lw_m2 118 rfl) rfl
theorem q485 : (Jvm.Cond.instanceMethod ({ cls := "java/lang/Exception", name := "<init>", desc := "()V" } : Jvm.MethodName)) ∈ lw_all := lw_g (lw_at lw_m2 149 rfl) rfl
theorem q486 : (Jvm.Cond.code ({ cls := "java/lang/Exception", name := "<init>", desc := "()V" } : Jvm.MethodName) prog_34_method_1_code (1 : Nat) (Option.none : Option Jvm.ClassFile.FieldType)) ∈ lw_all := lw_g (lw_at lw_m2 150 rfl) rfl
theorem q487 : (Jvm.Cond.methodLink "java/lang/Exception" (1 : Nat) ({ cls := "java/lang/Throwable", name := "<init>", desc := "()V" } : Jvm.MethodName)) ∈ lw_all := lw_g (lw_at lw_m2 151 rfl) rfl
theorem q1398 : (Jvm.Cond.instanceMethod ({ cls := "java/lang/Exception", name := "<init>", desc := "(Ljava/lang/Throwable;)V" } : Jvm.MethodName)) ∈ lw_all := lw_g (lw_at lw_m6 102 rfl) rfl
theorem q1399 : (Jvm.Cond.code ({ cls := "java/lang/Exception", name := "<init>", desc := "(Ljava/lang/Throwable;)V" } : Jvm.MethodName) prog_34_method_4_code (2 : Nat) (Option.none : Option Jvm.ClassFile.FieldType)) ∈ lw_all := lw_g (lw_at lw_m6 103 rfl) rfl
theorem q1400 : (Jvm.Cond.methodLink "java/lang/Exception" (13 : Nat) ({ cls := "java/lang/Throwable", name := "<init>", desc := "(Ljava/lang/Throwable;)V" } : Jvm.MethodName)) ∈ lw_all := lw_g (lw_at lw_m6 104 rfl) rfl
/-! java/lang/RuntimeException -/
set_option maxRecDepth 100000
def RJ7 : String := "java/lang/RuntimeException"
abbrev cJ7_init : ByteArray := prog_45_method_2_code
def yJ7_init : MethodName := ⟨RJ7, "<init>", "(Ljava/lang/String;)V"⟩
def dkwJ7_init_0 : List UInt8 := [42, 43, 183, 0, 7, 177]
abbrev dktJ7_init_0 : List UInt8 := dkwJ7_init_0 ++ []
theorem dksJ7_init_0 : cJ7_init.data.toList.drop 0 = dktJ7_init_0 := by decide +kernel
theorem dJ7_init_0 : decode cJ7_init 0 = .ok (.aload_n 0, 1) := dk_42 (dk_at dksJ7_init_0 0 rfl rfl)
theorem dJ7_init_1 : decode cJ7_init 1 = .ok (.aload_n 1, 1) := dk_43 (dk_at dksJ7_init_0 1 rfl rfl)
theorem dJ7_init_2 : decode cJ7_init 2 = .ok (.invokespecial 7, 3) := dk_183 0 7 (dk_at dksJ7_init_0 2 rfl rfl)
theorem dJ7_init_5 : decode cJ7_init 5 = .ok (.return_, 1) := dk_177 (dk_at dksJ7_init_0 5 rfl rfl)
abbrev cJ7_init_2 : ByteArray := prog_45_method_5_code
def yJ7_init_2 : MethodName := ⟨RJ7, "<init>", "(Ljava/lang/String;Ljava/lang/Throwable;ZZ)V"⟩
def dkwJ7_init_2_0 : List UInt8 := [42, 43, 44, 29, 21, 4, 183, 0, 16, 177]
abbrev dktJ7_init_2_0 : List UInt8 := dkwJ7_init_2_0 ++ []
theorem dksJ7_init_2_0 : cJ7_init_2.data.toList.drop 0 = dktJ7_init_2_0 := by decide +kernel
theorem dJ7_init_2_0 : decode cJ7_init_2 0 = .ok (.aload_n 0, 1) := dk_42 (dk_at dksJ7_init_2_0 0 rfl rfl)
theorem dJ7_init_2_1 : decode cJ7_init_2 1 = .ok (.aload_n 1, 1) := dk_43 (dk_at dksJ7_init_2_0 1 rfl rfl)
theorem dJ7_init_2_2 : decode cJ7_init_2 2 = .ok (.aload_n 2, 1) := dk_44 (dk_at dksJ7_init_2_0 2 rfl rfl)
theorem dJ7_init_2_3 : decode cJ7_init_2 3 = .ok (.iload_n 3, 1) := dk_29 (dk_at dksJ7_init_2_0 3 rfl rfl)
theorem dJ7_init_2_4 : decode cJ7_init_2 4 = .ok (.iload 4, 2) := dk_21 4 (dk_at dksJ7_init_2_0 4 rfl rfl)
theorem dJ7_init_2_6 : decode cJ7_init_2 6 = .ok (.invokespecial 16, 3) := dk_183 0 16 (dk_at dksJ7_init_2_0 6 rfl rfl)
theorem dJ7_init_2_9 : decode cJ7_init_2 9 = .ok (.return_, 1) := dk_177 (dk_at dksJ7_init_2_0 9 rfl rfl)
abbrev cJ7_init_3 : ByteArray := prog_45_method_1_code
def yJ7_init_3 : MethodName := ⟨RJ7, "<init>", "()V"⟩
theorem dJ7_init_3_0 : decode cJ7_init_3 0 = .ok (.aload_n 0, 1) := by decide +kernel
theorem dJ7_init_3_1 : decode cJ7_init_3 1 = .ok (.invokespecial 1, 3) := by decide +kernel
theorem dJ7_init_3_4 : decode cJ7_init_3 4 = .ok (.return_, 1) := by decide +kernel
abbrev cJ7_init_4 : ByteArray := prog_45_method_4_code
def yJ7_init_4 : MethodName := ⟨RJ7, "<init>", "(Ljava/lang/Throwable;)V"⟩
def dkwJ7_init_4_0 : List UInt8 := [42, 43, 183, 0, 13, 177]
abbrev dktJ7_init_4_0 : List UInt8 := dkwJ7_init_4_0 ++ []
theorem dksJ7_init_4_0 : cJ7_init_4.data.toList.drop 0 = dktJ7_init_4_0 := by decide +kernel
theorem dJ7_init_4_0 : decode cJ7_init_4 0 = .ok (.aload_n 0, 1) := dk_42 (dk_at dksJ7_init_4_0 0 rfl rfl)
theorem dJ7_init_4_1 : decode cJ7_init_4 1 = .ok (.aload_n 1, 1) := dk_43 (dk_at dksJ7_init_4_0 1 rfl rfl)
theorem dJ7_init_4_2 : decode cJ7_init_4 2 = .ok (.invokespecial 13, 3) := dk_183 0 13 (dk_at dksJ7_init_4_0 2 rfl rfl)
theorem dJ7_init_4_5 : decode cJ7_init_4 5 = .ok (.return_, 1) := dk_177 (dk_at dksJ7_init_4_0 5 rfl rfl)
theorem q108 : (Jvm.Cond.initialized "java/lang/RuntimeException") ∈ lw_all := lw_g (lw_at lw_m1 12 rfl) rfl
theorem q305 : (Jvm.Cond.instanceMethod ({ cls := "java/lang/RuntimeException", name := "<init>", desc := "(Ljava/lang/String;)V" } : Jvm.MethodName)) ∈ lw_all := lw_g (lw_at lw_m1 209 rfl) rfl
theorem q306 : (Jvm.Cond.code ({ cls := "java/lang/RuntimeException", name := "<init>", desc := "(Ljava/lang/String;)V" } : Jvm.MethodName) prog_45_method_2_code (2 : Nat) (Option.none : Option Jvm.ClassFile.FieldType)) ∈ lw_all := lw_g (lw_at lw_m1 210 rfl) rfl
theorem q307 : (Jvm.Cond.methodLink "java/lang/RuntimeException" (7 : Nat) ({ cls := "java/lang/Exception", name := "<init>", desc := "(Ljava/lang/String;)V" } : Jvm.MethodName)) ∈ lw_all := lw_g (lw_at lw_m1 211 rfl) rfl
theorem q338 : (Jvm.Cond.sameMethod "java/lang/RuntimeException" "java/lang/Throwable" "fillInStackTrace" "()Ljava/lang/Throwable;") ∈ lw_all := lw_g (lw_at lw_m2 2 rfl) rfl
theorem q341 : (Jvm.Cond.superclass "java/lang/RuntimeException" "java/lang/Exception") ∈ lw_all := lw_g (lw_at lw_m2 5 rfl) rfl
theorem q370 : (Jvm.Cond.declares ({ cls := "java/lang/RuntimeException", name := "<init>", desc := "()V" } : Jvm.MethodName)) ∈ lw_tbl := lw_at lw_m2 34 rfl
theorem q371 : (Jvm.Cond.declares ({ cls := "java/lang/RuntimeException", name := "<init>", desc := "(Ljava/lang/String;)V" } : Jvm.MethodName)) ∈ lw_tbl := lw_at lw_m2 35 rfl
theorem q449 : (Jvm.Cond.instanceMethod ({ cls := "java/lang/RuntimeException", name := "<init>", desc := "(Ljava/lang/String;Ljava/lang/Throwable;ZZ)V" } : Jvm.MethodName)) ∈ lw_all := lw_g (lw_at lw_m2 113 rfl) rfl
theorem q450 : (Jvm.Cond.code ({ cls := "java/lang/RuntimeException", name := "<init>", desc := "(Ljava/lang/String;Ljava/lang/Throwable;ZZ)V" } : Jvm.MethodName) prog_45_method_5_code (5 : Nat) (Option.none : Option Jvm.ClassFile.FieldType)) ∈ lw_all := lw_g (lw_at lw_m2 114 rfl) rfl
theorem q451 : (Jvm.Cond.methodLink "java/lang/RuntimeException" (16 : Nat) ({ cls := "java/lang/Exception", name := "<init>", desc := "(Ljava/lang/String;Ljava/lang/Throwable;ZZ)V" } : Jvm.MethodName)) ∈ lw_all := lw_g (lw_at lw_m2 115 rfl) rfl
theorem q482 : (Jvm.Cond.instanceMethod ({ cls := "java/lang/RuntimeException", name := "<init>", desc := "()V" } : Jvm.MethodName)) ∈ lw_all := lw_g (lw_at lw_m2 146 rfl) rfl
theorem q483 : (Jvm.Cond.code ({ cls := "java/lang/RuntimeException", name := "<init>", desc := "()V" } : Jvm.MethodName) prog_45_method_1_code (1 : Nat) (Option.none : Option Jvm.ClassFile.FieldType)) ∈ lw_all := lw_g (lw_at lw_m2 147 rfl) rfl
theorem q484 : (Jvm.Cond.methodLink "java/lang/RuntimeException" (1 : Nat) ({ cls := "java/lang/Exception", name := "<init>", desc := "()V" } : Jvm.MethodName)) ∈ lw_all := lw_g (lw_at lw_m2 148 rfl) rfl
theorem q502 : (Jvm.Cond.castable "java/lang/RuntimeException" "java/lang/Throwable") ∈ lw_tbl := lw_at lw_m2 166 rfl
theorem q1395 : (Jvm.Cond.instanceMethod ({ cls := "java/lang/RuntimeException", name := "<init>", desc := "(Ljava/lang/Throwable;)V" } : Jvm.MethodName)) ∈ lw_all := lw_g (lw_at lw_m6 99 rfl) rfl
theorem q1396 : (Jvm.Cond.code ({ cls := "java/lang/RuntimeException", name := "<init>", desc := "(Ljava/lang/Throwable;)V" } : Jvm.MethodName) prog_45_method_4_code (2 : Nat) (Option.none : Option Jvm.ClassFile.FieldType)) ∈ lw_all := lw_g (lw_at lw_m6 100 rfl) rfl
theorem q1397 : (Jvm.Cond.methodLink "java/lang/RuntimeException" (13 : Nat) ({ cls := "java/lang/Exception", name := "<init>", desc := "(Ljava/lang/Throwable;)V" } : Jvm.MethodName)) ∈ lw_all := lw_g (lw_at lw_m6 101 rfl) rfl
theorem q1449 : (Jvm.Cond.sameMethod "java/lang/RuntimeException" "java/lang/Throwable" "getMessage" "()Ljava/lang/String;") ∈ lw_all := lw_g (lw_at lw_m6 153 rfl) rfl
