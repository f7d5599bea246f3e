set_option maxRecDepth 100000
/-! CreditBroker -/
def RX0 : String := "CreditBroker"
def TX0 : u_T := fun k => match k with
  | 0 => ("CreditBroker", "now", "LCreditBroker$World;", true)
  | 1 => ("CreditBroker", "kept", "LCreditBroker$World;", true)
  | 2 => ("CreditBroker", "isKept", "Z", false)
  | 3 => ("CreditBroker", "shelves", "[LCreditBroker$Sheet;", true)
  | 4 => ("CreditBroker", "tape", "[I", true)
  | 5 => ("CreditBroker", "size", "I", false)
  | _ => ("CreditBroker", "refused", "[I", true)
def tyX0 : Nat → FieldType := fun k => match k with
  | 0 => .object "CreditBroker$World"
  | 1 => .object "CreditBroker$World"
  | 2 => .boolean
  | 3 => .array (.object "CreditBroker$Sheet")
  | 4 => .array .int
  | 5 => .int
  | _ => .array .int
abbrev wsX00 : List Cond := u_ws RX0 TX0 7
theorem nmX0 : ∀ a, a < 7 → ∀ b, b < 7 → a ≠ b → (TX0 a).2.1 ≠ (TX0 b).2.1 := by decide +kernel
theorem tyX0_ok : ∀ k, k < 7 → parseFieldDescriptor (TX0 k).2.2.1 = some (tyX0 k) := by decide +kernel
abbrev cX0_init : ByteArray := prog_1_method_4_code
def yX0_init : MethodName := ⟨RX0, "<init>", "()V"⟩
def dkwX0_init_3 : List UInt8 := [183, 0, 38, 83, 132, 1, 1, 167, 255, 234, 177]
abbrev dktX0_init_3 : List UInt8 := dkwX0_init_3 ++ []
def dkwX0_init_2 : List UInt8 := [188, 10, 181, 0, 35, 3, 60, 27, 16, 8, 162, 0, 22, 42, 180, 0, 27, 27, 187, 0, 25, 89]
abbrev dktX0_init_2 : List UInt8 := dkwX0_init_2 ++ dktX0_init_3
def dkwX0_init_1 : List UInt8 := [181, 0, 22, 42, 16, 8, 189, 0, 25, 181, 0, 27, 42, 17, 0, 250, 188, 10, 181, 0, 31, 42, 16, 7]
abbrev dktX0_init_1 : List UInt8 := dkwX0_init_1 ++ dktX0_init_2
def dkwX0_init_0 : List UInt8 := [42, 183, 0, 7, 42, 187, 0, 13, 89, 183, 0, 15, 181, 0, 16, 42, 187, 0, 13, 89, 183, 0, 15]
abbrev dktX0_init_0 : List UInt8 := dkwX0_init_0 ++ dktX0_init_1
theorem dksX0_init_0 : cX0_init.data.toList.drop 0 = dktX0_init_0 := by decide +kernel
theorem dksX0_init_1 : cX0_init.data.toList.drop 23 = dktX0_init_1 := dk_seg dksX0_init_0 23 rfl rfl
theorem dksX0_init_2 : cX0_init.data.toList.drop 47 = dktX0_init_2 := dk_seg dksX0_init_1 24 rfl rfl
theorem dksX0_init_3 : cX0_init.data.toList.drop 69 = dktX0_init_3 := dk_seg dksX0_init_2 22 rfl rfl
theorem dX0_init_0 : decode cX0_init 0 = .ok (.aload_n 0, 1) := dk_42 (dk_at dksX0_init_0 0 rfl rfl)
theorem dX0_init_1 : decode cX0_init 1 = .ok (.invokespecial 7, 3) := dk_183 0 7 (dk_at dksX0_init_0 1 rfl rfl)
theorem dX0_init_4 : decode cX0_init 4 = .ok (.aload_n 0, 1) := dk_42 (dk_at dksX0_init_0 4 rfl rfl)
theorem dX0_init_5 : decode cX0_init 5 = .ok (.new 13, 3) := dk_187 0 13 (dk_at dksX0_init_0 5 rfl rfl)
theorem dX0_init_8 : decode cX0_init 8 = .ok (.dup, 1) := dk_89 (dk_at dksX0_init_0 8 rfl rfl)
theorem dX0_init_9 : decode cX0_init 9 = .ok (.invokespecial 15, 3) := dk_183 0 15 (dk_at dksX0_init_0 9 rfl rfl)
theorem dX0_init_12 : decode cX0_init 12 = .ok (.putfield 16, 3) := dk_181 0 16 (dk_at dksX0_init_0 12 rfl rfl)
theorem dX0_init_15 : decode cX0_init 15 = .ok (.aload_n 0, 1) := dk_42 (dk_at dksX0_init_0 15 rfl rfl)
theorem dX0_init_16 : decode cX0_init 16 = .ok (.new 13, 3) := dk_187 0 13 (dk_at dksX0_init_0 16 rfl rfl)
theorem dX0_init_19 : decode cX0_init 19 = .ok (.dup, 1) := dk_89 (dk_at dksX0_init_0 19 rfl rfl)
theorem dX0_init_20 : decode cX0_init 20 = .ok (.invokespecial 15, 3) := dk_183 0 15 (dk_at dksX0_init_0 20 rfl rfl)
theorem dX0_init_23 : decode cX0_init 23 = .ok (.putfield 22, 3) := dk_181 0 22 (dk_at dksX0_init_1 0 rfl rfl)
theorem dX0_init_26 : decode cX0_init 26 = .ok (.aload_n 0, 1) := dk_42 (dk_at dksX0_init_1 3 rfl rfl)
theorem dX0_init_27 : decode cX0_init 27 = .ok (.bipush 8, 2) := dk_16 8 (dk_at dksX0_init_1 4 rfl rfl)
theorem dX0_init_29 : decode cX0_init 29 = .ok (.anewarray 25, 3) := dk_189 0 25 (dk_at dksX0_init_1 6 rfl rfl)
theorem dX0_init_32 : decode cX0_init 32 = .ok (.putfield 27, 3) := dk_181 0 27 (dk_at dksX0_init_1 9 rfl rfl)
theorem dX0_init_35 : decode cX0_init 35 = .ok (.aload_n 0, 1) := dk_42 (dk_at dksX0_init_1 12 rfl rfl)
theorem dX0_init_36 : decode cX0_init 36 = .ok (.sipush 250, 3) := dk_17 0 250 (dk_at dksX0_init_1 13 rfl rfl)
theorem dX0_init_39 : decode cX0_init 39 = .ok (.newarray .int, 2) := dk_188_10 (dk_at dksX0_init_1 16 rfl rfl)
theorem dX0_init_41 : decode cX0_init 41 = .ok (.putfield 31, 3) := dk_181 0 31 (dk_at dksX0_init_1 18 rfl rfl)
theorem dX0_init_44 : decode cX0_init 44 = .ok (.aload_n 0, 1) := dk_42 (dk_at dksX0_init_1 21 rfl rfl)
theorem dX0_init_45 : decode cX0_init 45 = .ok (.bipush 7, 2) := dk_16 7 (dk_at dksX0_init_1 22 rfl rfl)
theorem dX0_init_47 : decode cX0_init 47 = .ok (.newarray .int, 2) := dk_188_10 (dk_at dksX0_init_2 0 rfl rfl)
theorem dX0_init_49 : decode cX0_init 49 = .ok (.putfield 35, 3) := dk_181 0 35 (dk_at dksX0_init_2 2 rfl rfl)
theorem dX0_init_52 : decode cX0_init 52 = .ok (.iconst 0, 1) := dk_3 (dk_at dksX0_init_2 5 rfl rfl)
theorem dX0_init_53 : decode cX0_init 53 = .ok (.istore_n 1, 1) := dk_60 (dk_at dksX0_init_2 6 rfl rfl)
theorem dX0_init_54 : decode cX0_init 54 = .ok (.iload_n 1, 1) := dk_27 (dk_at dksX0_init_2 7 rfl rfl)
theorem dX0_init_55 : decode cX0_init 55 = .ok (.bipush 8, 2) := dk_16 8 (dk_at dksX0_init_2 8 rfl rfl)
theorem dX0_init_57 : decode cX0_init 57 = .ok (.if_icmp .ge 22, 3) := dk_162 0 22 (dk_at dksX0_init_2 10 rfl rfl)
theorem dX0_init_60 : decode cX0_init 60 = .ok (.aload_n 0, 1) := dk_42 (dk_at dksX0_init_2 13 rfl rfl)
theorem dX0_init_61 : decode cX0_init 61 = .ok (.getfield 27, 3) := dk_180 0 27 (dk_at dksX0_init_2 14 rfl rfl)
theorem dX0_init_64 : decode cX0_init 64 = .ok (.iload_n 1, 1) := dk_27 (dk_at dksX0_init_2 17 rfl rfl)
theorem dX0_init_65 : decode cX0_init 65 = .ok (.new 25, 3) := dk_187 0 25 (dk_at dksX0_init_2 18 rfl rfl)
theorem dX0_init_68 : decode cX0_init 68 = .ok (.dup, 1) := dk_89 (dk_at dksX0_init_2 21 rfl rfl)
theorem dX0_init_69 : decode cX0_init 69 = .ok (.invokespecial 38, 3) := dk_183 0 38 (dk_at dksX0_init_3 0 rfl rfl)
theorem dX0_init_72 : decode cX0_init 72 = .ok (.aastore, 1) := dk_83 (dk_at dksX0_init_3 3 rfl rfl)
theorem dX0_init_73 : decode cX0_init 73 = .ok (.iinc 1 1, 3) := dk_132 1 1 (dk_at dksX0_init_3 4 rfl rfl)
theorem dX0_init_76 : decode cX0_init 76 = .ok (.goto (-22), 3) := dk_167 255 234 (dk_at dksX0_init_3 7 rfl rfl)
theorem dX0_init_79 : decode cX0_init 79 = .ok (.return_, 1) := dk_177 (dk_at dksX0_init_3 10 rfl rfl)
abbrev cX0_row : ByteArray := prog_1_method_17_code
def yX0_row : MethodName := ⟨RX0, "row", "(III)I"⟩
def dkwX0_row_2 : List UInt8 := [58, 4, 42, 16, 174, 182, 0, 104, 172, 4, 172]
abbrev dktX0_row_2 : List UInt8 := dkwX0_row_2 ++ []
def dkwX0_row_1 : List UInt8 := [16, 174, 182, 0, 104, 172, 42, 180, 0, 27, 27, 50, 28, 29, 184, 0, 108, 181, 0, 112, 167, 0, 12]
abbrev dktX0_row_1 : List UInt8 := dkwX0_row_1 ++ dktX0_row_2
def dkwX0_row_0 : List UInt8 := [27, 184, 0, 101, 153, 0, 18, 28, 155, 0, 14, 28, 7, 163, 0, 9, 29, 16, 40, 164, 0, 10, 42]
abbrev dktX0_row_0 : List UInt8 := dkwX0_row_0 ++ dktX0_row_1
theorem dksX0_row_0 : cX0_row.data.toList.drop 0 = dktX0_row_0 := by decide +kernel
theorem dksX0_row_1 : cX0_row.data.toList.drop 23 = dktX0_row_1 := dk_seg dksX0_row_0 23 rfl rfl
theorem dksX0_row_2 : cX0_row.data.toList.drop 46 = dktX0_row_2 := dk_seg dksX0_row_1 23 rfl rfl
theorem dX0_row_0 : decode cX0_row 0 = .ok (.iload_n 1, 1) := dk_27 (dk_at dksX0_row_0 0 rfl rfl)
theorem dX0_row_1 : decode cX0_row 1 = .ok (.invokestatic 101, 3) := dk_184 0 101 (dk_at dksX0_row_0 1 rfl rfl)
theorem dX0_row_4 : decode cX0_row 4 = .ok (.ifCond .eq 18, 3) := dk_153 0 18 (dk_at dksX0_row_0 4 rfl rfl)
theorem dX0_row_7 : decode cX0_row 7 = .ok (.iload_n 2, 1) := dk_28 (dk_at dksX0_row_0 7 rfl rfl)
theorem dX0_row_8 : decode cX0_row 8 = .ok (.ifCond .lt 14, 3) := dk_155 0 14 (dk_at dksX0_row_0 8 rfl rfl)
theorem dX0_row_11 : decode cX0_row 11 = .ok (.iload_n 2, 1) := dk_28 (dk_at dksX0_row_0 11 rfl rfl)
theorem dX0_row_12 : decode cX0_row 12 = .ok (.iconst 4, 1) := dk_7 (dk_at dksX0_row_0 12 rfl rfl)
theorem dX0_row_13 : decode cX0_row 13 = .ok (.if_icmp .gt 9, 3) := dk_163 0 9 (dk_at dksX0_row_0 13 rfl rfl)
theorem dX0_row_16 : decode cX0_row 16 = .ok (.iload_n 3, 1) := dk_29 (dk_at dksX0_row_0 16 rfl rfl)
theorem dX0_row_17 : decode cX0_row 17 = .ok (.bipush 40, 2) := dk_16 40 (dk_at dksX0_row_0 17 rfl rfl)
theorem dX0_row_19 : decode cX0_row 19 = .ok (.if_icmp .le 10, 3) := dk_164 0 10 (dk_at dksX0_row_0 19 rfl rfl)
theorem dX0_row_22 : decode cX0_row 22 = .ok (.aload_n 0, 1) := dk_42 (dk_at dksX0_row_0 22 rfl rfl)
theorem dX0_row_23 : decode cX0_row 23 = .ok (.bipush (-82), 2) := dk_16 174 (dk_at dksX0_row_1 0 rfl rfl)
theorem dX0_row_25 : decode cX0_row 25 = .ok (.invokevirtual 104, 3) := dk_182 0 104 (dk_at dksX0_row_1 2 rfl rfl)
theorem dX0_row_28 : decode cX0_row 28 = .ok (.ireturn, 1) := dk_172 (dk_at dksX0_row_1 5 rfl rfl)
theorem dX0_row_29 : decode cX0_row 29 = .ok (.aload_n 0, 1) := dk_42 (dk_at dksX0_row_1 6 rfl rfl)
theorem dX0_row_30 : decode cX0_row 30 = .ok (.getfield 27, 3) := dk_180 0 27 (dk_at dksX0_row_1 7 rfl rfl)
theorem dX0_row_33 : decode cX0_row 33 = .ok (.iload_n 1, 1) := dk_27 (dk_at dksX0_row_1 10 rfl rfl)
theorem dX0_row_34 : decode cX0_row 34 = .ok (.aaload, 1) := dk_50 (dk_at dksX0_row_1 11 rfl rfl)
theorem dX0_row_35 : decode cX0_row 35 = .ok (.iload_n 2, 1) := dk_28 (dk_at dksX0_row_1 12 rfl rfl)
theorem dX0_row_36 : decode cX0_row 36 = .ok (.iload_n 3, 1) := dk_29 (dk_at dksX0_row_1 13 rfl rfl)
theorem dX0_row_37 : decode cX0_row 37 = .ok (.invokestatic 108, 3) := dk_184 0 108 (dk_at dksX0_row_1 14 rfl rfl)
theorem dX0_row_40 : decode cX0_row 40 = .ok (.putfield 112, 3) := dk_181 0 112 (dk_at dksX0_row_1 17 rfl rfl)
theorem dX0_row_43 : decode cX0_row 43 = .ok (.goto 12, 3) := dk_167 0 12 (dk_at dksX0_row_1 20 rfl rfl)
theorem dX0_row_46 : decode cX0_row 46 = .ok (.astore 4, 2) := dk_58 4 (dk_at dksX0_row_2 0 rfl rfl)
theorem dX0_row_48 : decode cX0_row 48 = .ok (.aload_n 0, 1) := dk_42 (dk_at dksX0_row_2 2 rfl rfl)
theorem dX0_row_49 : decode cX0_row 49 = .ok (.bipush (-82), 2) := dk_16 174 (dk_at dksX0_row_2 3 rfl rfl)
theorem dX0_row_51 : decode cX0_row 51 = .ok (.invokevirtual 104, 3) := dk_182 0 104 (dk_at dksX0_row_2 5 rfl rfl)
theorem dX0_row_54 : decode cX0_row 54 = .ok (.ireturn, 1) := dk_172 (dk_at dksX0_row_2 8 rfl rfl)
theorem dX0_row_55 : decode cX0_row 55 = .ok (.iconst 1, 1) := dk_4 (dk_at dksX0_row_2 9 rfl rfl)
theorem dX0_row_56 : decode cX0_row 56 = .ok (.ireturn, 1) := dk_172 (dk_at dksX0_row_2 10 rfl rfl)
abbrev cX0_isShelf : ByteArray := prog_1_method_6_code
def yX0_isShelf : MethodName := ⟨RX0, "isShelf", "(I)Z"⟩
def dkwX0_isShelf_0 : List UInt8 := [26, 3, 16, 7, 184, 0, 39, 172]
abbrev dktX0_isShelf_0 : List UInt8 := dkwX0_isShelf_0 ++ []
theorem dksX0_isShelf_0 : cX0_isShelf.data.toList.drop 0 = dktX0_isShelf_0 := by decide +kernel
theorem dX0_isShelf_0 : decode cX0_isShelf 0 = .ok (.iload_n 0, 1) := dk_26 (dk_at dksX0_isShelf_0 0 rfl rfl)
theorem dX0_isShelf_1 : decode cX0_isShelf 1 = .ok (.iconst 0, 1) := dk_3 (dk_at dksX0_isShelf_0 1 rfl rfl)
theorem dX0_isShelf_2 : decode cX0_isShelf 2 = .ok (.bipush 7, 2) := dk_16 7 (dk_at dksX0_isShelf_0 2 rfl rfl)
theorem dX0_isShelf_4 : decode cX0_isShelf 4 = .ok (.invokestatic 39, 3) := dk_184 0 39 (dk_at dksX0_isShelf_0 4 rfl rfl)
theorem dX0_isShelf_7 : decode cX0_isShelf 7 = .ok (.ireturn, 1) := dk_172 (dk_at dksX0_isShelf_0 7 rfl rfl)
abbrev cX0_isIn : ByteArray := prog_1_method_1_code
def yX0_isIn : MethodName := ⟨RX0, "isIn", "(III)Z"⟩
def dkwX0_isIn_0 : List UInt8 := [26, 27, 161, 0, 12, 26, 28, 163, 0, 7, 4, 167, 0, 4, 3, 172]
abbrev dktX0_isIn_0 : List UInt8 := dkwX0_isIn_0 ++ []
theorem dksX0_isIn_0 : cX0_isIn.data.toList.drop 0 = dktX0_isIn_0 := by decide +kernel
theorem dX0_isIn_0 : decode cX0_isIn 0 = .ok (.iload_n 0, 1) := dk_26 (dk_at dksX0_isIn_0 0 rfl rfl)
theorem dX0_isIn_1 : decode cX0_isIn 1 = .ok (.iload_n 1, 1) := dk_27 (dk_at dksX0_isIn_0 1 rfl rfl)
theorem dX0_isIn_2 : decode cX0_isIn 2 = .ok (.if_icmp .lt 12, 3) := dk_161 0 12 (dk_at dksX0_isIn_0 2 rfl rfl)
theorem dX0_isIn_5 : decode cX0_isIn 5 = .ok (.iload_n 0, 1) := dk_26 (dk_at dksX0_isIn_0 5 rfl rfl)
theorem dX0_isIn_6 : decode cX0_isIn 6 = .ok (.iload_n 2, 1) := dk_28 (dk_at dksX0_isIn_0 6 rfl rfl)
theorem dX0_isIn_7 : decode cX0_isIn 7 = .ok (.if_icmp .gt 7, 3) := dk_163 0 7 (dk_at dksX0_isIn_0 7 rfl rfl)
theorem dX0_isIn_10 : decode cX0_isIn 10 = .ok (.iconst 1, 1) := dk_4 (dk_at dksX0_isIn_0 10 rfl rfl)
theorem dX0_isIn_11 : decode cX0_isIn 11 = .ok (.goto 4, 3) := dk_167 0 4 (dk_at dksX0_isIn_0 11 rfl rfl)
theorem dX0_isIn_14 : decode cX0_isIn 14 = .ok (.iconst 0, 1) := dk_3 (dk_at dksX0_isIn_0 14 rfl rfl)
theorem dX0_isIn_15 : decode cX0_isIn 15 = .ok (.ireturn, 1) := dk_172 (dk_at dksX0_isIn_0 15 rfl rfl)
abbrev cX0_no : ByteArray := prog_1_method_5_code
def yX0_no : MethodName := ⟨RX0, "no", "(I)I"⟩
def dkwX0_no_0 : List UInt8 := [42, 180, 0, 35, 16, 176, 27, 100, 92, 46, 4, 96, 79, 27, 172]
abbrev dktX0_no_0 : List UInt8 := dkwX0_no_0 ++ []
theorem dksX0_no_0 : cX0_no.data.toList.drop 0 = dktX0_no_0 := by decide +kernel
theorem dX0_no_0 : decode cX0_no 0 = .ok (.aload_n 0, 1) := dk_42 (dk_at dksX0_no_0 0 rfl rfl)
theorem dX0_no_1 : decode cX0_no 1 = .ok (.getfield 35, 3) := dk_180 0 35 (dk_at dksX0_no_0 1 rfl rfl)
theorem dX0_no_4 : decode cX0_no 4 = .ok (.bipush (-80), 2) := dk_16 176 (dk_at dksX0_no_0 4 rfl rfl)
theorem dX0_no_6 : decode cX0_no 6 = .ok (.iload_n 1, 1) := dk_27 (dk_at dksX0_no_0 6 rfl rfl)
theorem dX0_no_7 : decode cX0_no 7 = .ok (.isub, 1) := dk_100 (dk_at dksX0_no_0 7 rfl rfl)
theorem dX0_no_8 : decode cX0_no 8 = .ok (.dup2, 1) := dk_92 (dk_at dksX0_no_0 8 rfl rfl)
theorem dX0_no_9 : decode cX0_no 9 = .ok (.iaload, 1) := dk_46 (dk_at dksX0_no_0 9 rfl rfl)
theorem dX0_no_10 : decode cX0_no 10 = .ok (.iconst 1, 1) := dk_4 (dk_at dksX0_no_0 10 rfl rfl)
theorem dX0_no_11 : decode cX0_no 11 = .ok (.iadd, 1) := dk_96 (dk_at dksX0_no_0 11 rfl rfl)
theorem dX0_no_12 : decode cX0_no 12 = .ok (.iastore, 1) := dk_79 (dk_at dksX0_no_0 12 rfl rfl)
theorem dX0_no_13 : decode cX0_no 13 = .ok (.iload_n 1, 1) := dk_27 (dk_at dksX0_no_0 13 rfl rfl)
theorem dX0_no_14 : decode cX0_no 14 = .ok (.ireturn, 1) := dk_172 (dk_at dksX0_no_0 14 rfl rfl)
abbrev cX0_rowOf : ByteArray := prog_1_method_13_code
def yX0_rowOf : MethodName := ⟨RX0, "rowOf", "(II)Ljava/lang/Object;"⟩
def dkwX0_rowOf_2 : List UInt8 := [27, 188, 8, 176, 27, 188, 9, 176, 27, 188, 10, 176, 27, 188, 11, 176, 27, 188, 4, 176]
abbrev dktX0_rowOf_2 : List UInt8 := dkwX0_rowOf_2 ++ []
def dkwX0_rowOf_1 : List UInt8 := [170, 0, 0, 0, 0, 0, 47, 0, 0, 0, 0, 0, 0, 0, 3, 0, 0, 0, 31, 0, 0, 0, 35, 0, 0, 0, 39, 0, 0, 0, 43]
abbrev dktX0_rowOf_1 : List UInt8 := dkwX0_rowOf_1 ++ dktX0_rowOf_2
def dkwX0_rowOf_0 : List UInt8 := [26]
abbrev dktX0_rowOf_0 : List UInt8 := dkwX0_rowOf_0 ++ dktX0_rowOf_1
theorem dksX0_rowOf_0 : cX0_rowOf.data.toList.drop 0 = dktX0_rowOf_0 := by decide +kernel
theorem dksX0_rowOf_1 : cX0_rowOf.data.toList.drop 1 = dktX0_rowOf_1 := dk_seg dksX0_rowOf_0 1 rfl rfl
theorem dksX0_rowOf_2 : cX0_rowOf.data.toList.drop 32 = dktX0_rowOf_2 := dk_seg dksX0_rowOf_1 31 rfl rfl
theorem dX0_rowOf_0 : decode cX0_rowOf 0 = .ok (.iload_n 0, 1) := dk_26 (dk_at dksX0_rowOf_0 0 rfl rfl)
theorem dX0_rowOf_1 : decode cX0_rowOf 1 = .ok (.tableswitch 47 0 3 #[31, 35, 39, 43], 31) := by decide +kernel
theorem dX0_rowOf_32 : decode cX0_rowOf 32 = .ok (.iload_n 1, 1) := dk_27 (dk_at dksX0_rowOf_2 0 rfl rfl)
theorem dX0_rowOf_33 : decode cX0_rowOf 33 = .ok (.newarray .byte, 2) := dk_188_8 (dk_at dksX0_rowOf_2 1 rfl rfl)
theorem dX0_rowOf_35 : decode cX0_rowOf 35 = .ok (.areturn, 1) := dk_176 (dk_at dksX0_rowOf_2 3 rfl rfl)
theorem dX0_rowOf_36 : decode cX0_rowOf 36 = .ok (.iload_n 1, 1) := dk_27 (dk_at dksX0_rowOf_2 4 rfl rfl)
theorem dX0_rowOf_37 : decode cX0_rowOf 37 = .ok (.newarray .short, 2) := dk_188_9 (dk_at dksX0_rowOf_2 5 rfl rfl)
theorem dX0_rowOf_39 : decode cX0_rowOf 39 = .ok (.areturn, 1) := dk_176 (dk_at dksX0_rowOf_2 7 rfl rfl)
theorem dX0_rowOf_40 : decode cX0_rowOf 40 = .ok (.iload_n 1, 1) := dk_27 (dk_at dksX0_rowOf_2 8 rfl rfl)
theorem dX0_rowOf_41 : decode cX0_rowOf 41 = .ok (.newarray .int, 2) := dk_188_10 (dk_at dksX0_rowOf_2 9 rfl rfl)
theorem dX0_rowOf_43 : decode cX0_rowOf 43 = .ok (.areturn, 1) := dk_176 (dk_at dksX0_rowOf_2 11 rfl rfl)
theorem dX0_rowOf_44 : decode cX0_rowOf 44 = .ok (.iload_n 1, 1) := dk_27 (dk_at dksX0_rowOf_2 12 rfl rfl)
theorem dX0_rowOf_45 : decode cX0_rowOf 45 = .ok (.newarray .long, 2) := dk_188_11 (dk_at dksX0_rowOf_2 13 rfl rfl)
theorem dX0_rowOf_47 : decode cX0_rowOf 47 = .ok (.areturn, 1) := dk_176 (dk_at dksX0_rowOf_2 15 rfl rfl)
theorem dX0_rowOf_48 : decode cX0_rowOf 48 = .ok (.iload_n 1, 1) := dk_27 (dk_at dksX0_rowOf_2 16 rfl rfl)
theorem dX0_rowOf_49 : decode cX0_rowOf 49 = .ok (.newarray .boolean, 2) := dk_188_4 (dk_at dksX0_rowOf_2 17 rfl rfl)
theorem dX0_rowOf_51 : decode cX0_rowOf 51 = .ok (.areturn, 1) := dk_176 (dk_at dksX0_rowOf_2 19 rfl rfl)
abbrev cX0_set : ByteArray := prog_1_method_19_code
def yX0_set : MethodName := ⟨RX0, "set", "(IIJ)I"⟩
def dkwX0_set_1 : List UInt8 := [4, 172, 58, 5, 42, 25, 5, 180, 0, 130, 182, 0, 104, 172, 58, 5, 42, 16, 174, 182, 0, 104, 172]
abbrev dktX0_set_1 : List UInt8 := dkwX0_set_1 ++ []
def dkwX0_set_0 : List UInt8 := [27, 184, 0, 101, 154, 0, 10, 42, 16, 174, 182, 0, 104, 172, 42, 27, 182, 0, 123, 28, 33, 184, 0, 126]
abbrev dktX0_set_0 : List UInt8 := dkwX0_set_0 ++ dktX0_set_1
theorem dksX0_set_0 : cX0_set.data.toList.drop 0 = dktX0_set_0 := by decide +kernel
theorem dksX0_set_1 : cX0_set.data.toList.drop 24 = dktX0_set_1 := dk_seg dksX0_set_0 24 rfl rfl
theorem dX0_set_0 : decode cX0_set 0 = .ok (.iload_n 1, 1) := dk_27 (dk_at dksX0_set_0 0 rfl rfl)
theorem dX0_set_1 : decode cX0_set 1 = .ok (.invokestatic 101, 3) := dk_184 0 101 (dk_at dksX0_set_0 1 rfl rfl)
theorem dX0_set_4 : decode cX0_set 4 = .ok (.ifCond .ne 10, 3) := dk_154 0 10 (dk_at dksX0_set_0 4 rfl rfl)
theorem dX0_set_7 : decode cX0_set 7 = .ok (.aload_n 0, 1) := dk_42 (dk_at dksX0_set_0 7 rfl rfl)
theorem dX0_set_8 : decode cX0_set 8 = .ok (.bipush (-82), 2) := dk_16 174 (dk_at dksX0_set_0 8 rfl rfl)
theorem dX0_set_10 : decode cX0_set 10 = .ok (.invokevirtual 104, 3) := dk_182 0 104 (dk_at dksX0_set_0 10 rfl rfl)
theorem dX0_set_13 : decode cX0_set 13 = .ok (.ireturn, 1) := dk_172 (dk_at dksX0_set_0 13 rfl rfl)
theorem dX0_set_14 : decode cX0_set 14 = .ok (.aload_n 0, 1) := dk_42 (dk_at dksX0_set_0 14 rfl rfl)
theorem dX0_set_15 : decode cX0_set 15 = .ok (.iload_n 1, 1) := dk_27 (dk_at dksX0_set_0 15 rfl rfl)
theorem dX0_set_16 : decode cX0_set 16 = .ok (.invokevirtual 123, 3) := dk_182 0 123 (dk_at dksX0_set_0 16 rfl rfl)
theorem dX0_set_19 : decode cX0_set 19 = .ok (.iload_n 2, 1) := dk_28 (dk_at dksX0_set_0 19 rfl rfl)
theorem dX0_set_20 : decode cX0_set 20 = .ok (.lload_n 3, 1) := dk_33 (dk_at dksX0_set_0 20 rfl rfl)
theorem dX0_set_21 : decode cX0_set 21 = .ok (.invokestatic 126, 3) := dk_184 0 126 (dk_at dksX0_set_0 21 rfl rfl)
theorem dX0_set_24 : decode cX0_set 24 = .ok (.iconst 1, 1) := dk_4 (dk_at dksX0_set_1 0 rfl rfl)
theorem dX0_set_25 : decode cX0_set 25 = .ok (.ireturn, 1) := dk_172 (dk_at dksX0_set_1 1 rfl rfl)
theorem dX0_set_26 : decode cX0_set 26 = .ok (.astore 5, 2) := dk_58 5 (dk_at dksX0_set_1 2 rfl rfl)
theorem dX0_set_28 : decode cX0_set 28 = .ok (.aload_n 0, 1) := dk_42 (dk_at dksX0_set_1 4 rfl rfl)
theorem dX0_set_29 : decode cX0_set 29 = .ok (.aload 5, 2) := dk_25 5 (dk_at dksX0_set_1 5 rfl rfl)
theorem dX0_set_31 : decode cX0_set 31 = .ok (.getfield 130, 3) := dk_180 0 130 (dk_at dksX0_set_1 7 rfl rfl)
theorem dX0_set_34 : decode cX0_set 34 = .ok (.invokevirtual 104, 3) := dk_182 0 104 (dk_at dksX0_set_1 10 rfl rfl)
theorem dX0_set_37 : decode cX0_set 37 = .ok (.ireturn, 1) := dk_172 (dk_at dksX0_set_1 13 rfl rfl)
theorem dX0_set_38 : decode cX0_set 38 = .ok (.astore 5, 2) := dk_58 5 (dk_at dksX0_set_1 14 rfl rfl)
theorem dX0_set_40 : decode cX0_set 40 = .ok (.aload_n 0, 1) := dk_42 (dk_at dksX0_set_1 16 rfl rfl)
theorem dX0_set_41 : decode cX0_set 41 = .ok (.bipush (-82), 2) := dk_16 174 (dk_at dksX0_set_1 17 rfl rfl)
theorem dX0_set_43 : decode cX0_set 43 = .ok (.invokevirtual 104, 3) := dk_182 0 104 (dk_at dksX0_set_1 19 rfl rfl)
theorem dX0_set_46 : decode cX0_set 46 = .ok (.ireturn, 1) := dk_172 (dk_at dksX0_set_1 22 rfl rfl)
abbrev cX0_rowIn : ByteArray := prog_1_method_18_code
def yX0_rowIn : MethodName := ⟨RX0, "rowIn", "(I)Ljava/lang/Object;"⟩
def dkwX0_rowIn_1 : List UInt8 := [183, 0, 120, 191, 44, 199, 0, 13, 187, 0, 118, 89, 16, 172, 183, 0, 120, 191, 44, 176]
abbrev dktX0_rowIn_1 : List UInt8 := dkwX0_rowIn_1 ++ []
def dkwX0_rowIn_0 : List UInt8 := [42, 180, 0, 27, 27, 50, 180, 0, 112, 77, 44, 193, 0, 2, 153, 0, 13, 187, 0, 118, 89, 16, 173]
abbrev dktX0_rowIn_0 : List UInt8 := dkwX0_rowIn_0 ++ dktX0_rowIn_1
theorem dksX0_rowIn_0 : cX0_rowIn.data.toList.drop 0 = dktX0_rowIn_0 := by decide +kernel
theorem dksX0_rowIn_1 : cX0_rowIn.data.toList.drop 23 = dktX0_rowIn_1 := dk_seg dksX0_rowIn_0 23 rfl rfl
theorem dX0_rowIn_0 : decode cX0_rowIn 0 = .ok (.aload_n 0, 1) := dk_42 (dk_at dksX0_rowIn_0 0 rfl rfl)
theorem dX0_rowIn_1 : decode cX0_rowIn 1 = .ok (.getfield 27, 3) := dk_180 0 27 (dk_at dksX0_rowIn_0 1 rfl rfl)
theorem dX0_rowIn_4 : decode cX0_rowIn 4 = .ok (.iload_n 1, 1) := dk_27 (dk_at dksX0_rowIn_0 4 rfl rfl)
theorem dX0_rowIn_5 : decode cX0_rowIn 5 = .ok (.aaload, 1) := dk_50 (dk_at dksX0_rowIn_0 5 rfl rfl)
theorem dX0_rowIn_6 : decode cX0_rowIn 6 = .ok (.getfield 112, 3) := dk_180 0 112 (dk_at dksX0_rowIn_0 6 rfl rfl)
theorem dX0_rowIn_9 : decode cX0_rowIn 9 = .ok (.astore_n 2, 1) := dk_77 (dk_at dksX0_rowIn_0 9 rfl rfl)
theorem dX0_rowIn_10 : decode cX0_rowIn 10 = .ok (.aload_n 2, 1) := dk_44 (dk_at dksX0_rowIn_0 10 rfl rfl)
theorem dX0_rowIn_11 : decode cX0_rowIn 11 = .ok (.instanceof 2, 3) := dk_193 0 2 (dk_at dksX0_rowIn_0 11 rfl rfl)
theorem dX0_rowIn_14 : decode cX0_rowIn 14 = .ok (.ifCond .eq 13, 3) := dk_153 0 13 (dk_at dksX0_rowIn_0 14 rfl rfl)
theorem dX0_rowIn_17 : decode cX0_rowIn 17 = .ok (.new 118, 3) := dk_187 0 118 (dk_at dksX0_rowIn_0 17 rfl rfl)
theorem dX0_rowIn_20 : decode cX0_rowIn 20 = .ok (.dup, 1) := dk_89 (dk_at dksX0_rowIn_0 20 rfl rfl)
theorem dX0_rowIn_21 : decode cX0_rowIn 21 = .ok (.bipush (-83), 2) := dk_16 173 (dk_at dksX0_rowIn_0 21 rfl rfl)
theorem dX0_rowIn_23 : decode cX0_rowIn 23 = .ok (.invokespecial 120, 3) := dk_183 0 120 (dk_at dksX0_rowIn_1 0 rfl rfl)
theorem dX0_rowIn_26 : decode cX0_rowIn 26 = .ok (.athrow, 1) := dk_191 (dk_at dksX0_rowIn_1 3 rfl rfl)
theorem dX0_rowIn_27 : decode cX0_rowIn 27 = .ok (.aload_n 2, 1) := dk_44 (dk_at dksX0_rowIn_1 4 rfl rfl)
theorem dX0_rowIn_28 : decode cX0_rowIn 28 = .ok (.ifnonnull 13, 3) := dk_199 0 13 (dk_at dksX0_rowIn_1 5 rfl rfl)
theorem dX0_rowIn_31 : decode cX0_rowIn 31 = .ok (.new 118, 3) := dk_187 0 118 (dk_at dksX0_rowIn_1 8 rfl rfl)
theorem dX0_rowIn_34 : decode cX0_rowIn 34 = .ok (.dup, 1) := dk_89 (dk_at dksX0_rowIn_1 11 rfl rfl)
theorem dX0_rowIn_35 : decode cX0_rowIn 35 = .ok (.bipush (-84), 2) := dk_16 172 (dk_at dksX0_rowIn_1 12 rfl rfl)
theorem dX0_rowIn_37 : decode cX0_rowIn 37 = .ok (.invokespecial 120, 3) := dk_183 0 120 (dk_at dksX0_rowIn_1 14 rfl rfl)
theorem dX0_rowIn_40 : decode cX0_rowIn 40 = .ok (.athrow, 1) := dk_191 (dk_at dksX0_rowIn_1 17 rfl rfl)
theorem dX0_rowIn_41 : decode cX0_rowIn 41 = .ok (.aload_n 2, 1) := dk_44 (dk_at dksX0_rowIn_1 18 rfl rfl)
theorem dX0_rowIn_42 : decode cX0_rowIn 42 = .ok (.areturn, 1) := dk_176 (dk_at dksX0_rowIn_1 19 rfl rfl)
abbrev cX0_puts : ByteArray := prog_1_method_16_code
def yX0_puts : MethodName := ⟨RX0, "puts", "(Ljava/lang/Object;IJ)V"⟩
def dkwX0_puts_4 : List UInt8 := [192, 0, 99, 27, 32, 9, 148, 153, 0, 7, 4, 167, 0, 4, 3, 84, 177]
abbrev dktX0_puts_4 : List UInt8 := dkwX0_puts_4 ++ []
def dkwX0_puts_3 : List UInt8 := [42, 192, 0, 92, 27, 32, 136, 79, 167, 0, 30, 42, 192, 0, 93, 27, 32, 80, 167, 0, 20, 42]
abbrev dktX0_puts_3 : List UInt8 := dkwX0_puts_3 ++ dktX0_puts_4
def dkwX0_puts_2 : List UInt8 := [42, 192, 0, 88, 27, 32, 136, 145, 84, 167, 0, 53, 42, 192, 0, 90, 27, 32, 136, 147, 86, 167, 0, 41]
abbrev dktX0_puts_2 : List UInt8 := dkwX0_puts_2 ++ dktX0_puts_3
def dkwX0_puts_1 : List UInt8 := [170, 0, 0, 0, 0, 0, 0, 77, 0, 0, 0, 0, 0, 0, 0, 3, 0, 0, 0, 32, 0, 0, 0, 44, 0, 0, 0, 56, 0, 0, 0, 67]
abbrev dktX0_puts_1 : List UInt8 := dkwX0_puts_1 ++ dktX0_puts_2
def dkwX0_puts_0 : List UInt8 := [42, 184, 0, 95]
abbrev dktX0_puts_0 : List UInt8 := dkwX0_puts_0 ++ dktX0_puts_1
theorem dksX0_puts_0 : cX0_puts.data.toList.drop 0 = dktX0_puts_0 := by decide +kernel
theorem dksX0_puts_1 : cX0_puts.data.toList.drop 4 = dktX0_puts_1 := dk_seg dksX0_puts_0 4 rfl rfl
theorem dksX0_puts_2 : cX0_puts.data.toList.drop 36 = dktX0_puts_2 := dk_seg dksX0_puts_1 32 rfl rfl
theorem dksX0_puts_3 : cX0_puts.data.toList.drop 60 = dktX0_puts_3 := dk_seg dksX0_puts_2 24 rfl rfl
theorem dksX0_puts_4 : cX0_puts.data.toList.drop 82 = dktX0_puts_4 := dk_seg dksX0_puts_3 22 rfl rfl
theorem dX0_puts_0 : decode cX0_puts 0 = .ok (.aload_n 0, 1) := dk_42 (dk_at dksX0_puts_0 0 rfl rfl)
theorem dX0_puts_1 : decode cX0_puts 1 = .ok (.invokestatic 95, 3) := dk_184 0 95 (dk_at dksX0_puts_0 1 rfl rfl)
theorem dX0_puts_4 : decode cX0_puts 4 = .ok (.tableswitch 77 0 3 #[32, 44, 56, 67], 32) := by decide +kernel
theorem dX0_puts_36 : decode cX0_puts 36 = .ok (.aload_n 0, 1) := dk_42 (dk_at dksX0_puts_2 0 rfl rfl)
theorem dX0_puts_37 : decode cX0_puts 37 = .ok (.checkcast 88, 3) := dk_192 0 88 (dk_at dksX0_puts_2 1 rfl rfl)
theorem dX0_puts_40 : decode cX0_puts 40 = .ok (.iload_n 1, 1) := dk_27 (dk_at dksX0_puts_2 4 rfl rfl)
theorem dX0_puts_41 : decode cX0_puts 41 = .ok (.lload_n 2, 1) := dk_32 (dk_at dksX0_puts_2 5 rfl rfl)
theorem dX0_puts_42 : decode cX0_puts 42 = .ok (.l2i, 1) := dk_136 (dk_at dksX0_puts_2 6 rfl rfl)
theorem dX0_puts_43 : decode cX0_puts 43 = .ok (.i2b, 1) := dk_145 (dk_at dksX0_puts_2 7 rfl rfl)
theorem dX0_puts_44 : decode cX0_puts 44 = .ok (.bastore, 1) := dk_84 (dk_at dksX0_puts_2 8 rfl rfl)
theorem dX0_puts_45 : decode cX0_puts 45 = .ok (.goto 53, 3) := dk_167 0 53 (dk_at dksX0_puts_2 9 rfl rfl)
theorem dX0_puts_48 : decode cX0_puts 48 = .ok (.aload_n 0, 1) := dk_42 (dk_at dksX0_puts_2 12 rfl rfl)
theorem dX0_puts_49 : decode cX0_puts 49 = .ok (.checkcast 90, 3) := dk_192 0 90 (dk_at dksX0_puts_2 13 rfl rfl)
theorem dX0_puts_52 : decode cX0_puts 52 = .ok (.iload_n 1, 1) := dk_27 (dk_at dksX0_puts_2 16 rfl rfl)
theorem dX0_puts_53 : decode cX0_puts 53 = .ok (.lload_n 2, 1) := dk_32 (dk_at dksX0_puts_2 17 rfl rfl)
theorem dX0_puts_54 : decode cX0_puts 54 = .ok (.l2i, 1) := dk_136 (dk_at dksX0_puts_2 18 rfl rfl)
theorem dX0_puts_55 : decode cX0_puts 55 = .ok (.i2s, 1) := dk_147 (dk_at dksX0_puts_2 19 rfl rfl)
theorem dX0_puts_56 : decode cX0_puts 56 = .ok (.sastore, 1) := dk_86 (dk_at dksX0_puts_2 20 rfl rfl)
theorem dX0_puts_57 : decode cX0_puts 57 = .ok (.goto 41, 3) := dk_167 0 41 (dk_at dksX0_puts_2 21 rfl rfl)
theorem dX0_puts_60 : decode cX0_puts 60 = .ok (.aload_n 0, 1) := dk_42 (dk_at dksX0_puts_3 0 rfl rfl)
theorem dX0_puts_61 : decode cX0_puts 61 = .ok (.checkcast 92, 3) := dk_192 0 92 (dk_at dksX0_puts_3 1 rfl rfl)
theorem dX0_puts_64 : decode cX0_puts 64 = .ok (.iload_n 1, 1) := dk_27 (dk_at dksX0_puts_3 4 rfl rfl)
theorem dX0_puts_65 : decode cX0_puts 65 = .ok (.lload_n 2, 1) := dk_32 (dk_at dksX0_puts_3 5 rfl rfl)
theorem dX0_puts_66 : decode cX0_puts 66 = .ok (.l2i, 1) := dk_136 (dk_at dksX0_puts_3 6 rfl rfl)
theorem dX0_puts_67 : decode cX0_puts 67 = .ok (.iastore, 1) := dk_79 (dk_at dksX0_puts_3 7 rfl rfl)
theorem dX0_puts_68 : decode cX0_puts 68 = .ok (.goto 30, 3) := dk_167 0 30 (dk_at dksX0_puts_3 8 rfl rfl)
theorem dX0_puts_71 : decode cX0_puts 71 = .ok (.aload_n 0, 1) := dk_42 (dk_at dksX0_puts_3 11 rfl rfl)
theorem dX0_puts_72 : decode cX0_puts 72 = .ok (.checkcast 93, 3) := dk_192 0 93 (dk_at dksX0_puts_3 12 rfl rfl)
theorem dX0_puts_75 : decode cX0_puts 75 = .ok (.iload_n 1, 1) := dk_27 (dk_at dksX0_puts_3 15 rfl rfl)
theorem dX0_puts_76 : decode cX0_puts 76 = .ok (.lload_n 2, 1) := dk_32 (dk_at dksX0_puts_3 16 rfl rfl)
theorem dX0_puts_77 : decode cX0_puts 77 = .ok (.lastore, 1) := dk_80 (dk_at dksX0_puts_3 17 rfl rfl)
theorem dX0_puts_78 : decode cX0_puts 78 = .ok (.goto 20, 3) := dk_167 0 20 (dk_at dksX0_puts_3 18 rfl rfl)
theorem dX0_puts_81 : decode cX0_puts 81 = .ok (.aload_n 0, 1) := dk_42 (dk_at dksX0_puts_3 21 rfl rfl)
theorem dX0_puts_82 : decode cX0_puts 82 = .ok (.checkcast 99, 3) := dk_192 0 99 (dk_at dksX0_puts_4 0 rfl rfl)
theorem dX0_puts_85 : decode cX0_puts 85 = .ok (.iload_n 1, 1) := dk_27 (dk_at dksX0_puts_4 3 rfl rfl)
theorem dX0_puts_86 : decode cX0_puts 86 = .ok (.lload_n 2, 1) := dk_32 (dk_at dksX0_puts_4 4 rfl rfl)
theorem dX0_puts_87 : decode cX0_puts 87 = .ok (.lconst 0, 1) := dk_9 (dk_at dksX0_puts_4 5 rfl rfl)
theorem dX0_puts_88 : decode cX0_puts 88 = .ok (.lcmp, 1) := dk_148 (dk_at dksX0_puts_4 6 rfl rfl)
theorem dX0_puts_89 : decode cX0_puts 89 = .ok (.ifCond .eq 7, 3) := dk_153 0 7 (dk_at dksX0_puts_4 7 rfl rfl)
theorem dX0_puts_92 : decode cX0_puts 92 = .ok (.iconst 1, 1) := dk_4 (dk_at dksX0_puts_4 10 rfl rfl)
theorem dX0_puts_93 : decode cX0_puts 93 = .ok (.goto 4, 3) := dk_167 0 4 (dk_at dksX0_puts_4 11 rfl rfl)
theorem dX0_puts_96 : decode cX0_puts 96 = .ok (.iconst 0, 1) := dk_3 (dk_at dksX0_puts_4 14 rfl rfl)
theorem dX0_puts_97 : decode cX0_puts 97 = .ok (.bastore, 1) := dk_84 (dk_at dksX0_puts_4 15 rfl rfl)
theorem dX0_puts_98 : decode cX0_puts 98 = .ok (.return_, 1) := dk_177 (dk_at dksX0_puts_4 16 rfl rfl)
abbrev cX0_sortOf : ByteArray := prog_1_method_14_code
def yX0_sortOf : MethodName := ⟨RX0, "sortOf", "(Ljava/lang/Object;)I"⟩
def dkwX0_sortOf_1 : List UInt8 := [153, 0, 5, 5, 172, 42, 193, 0, 93, 153, 0, 7, 6, 167, 0, 4, 7, 172]
abbrev dktX0_sortOf_1 : List UInt8 := dkwX0_sortOf_1 ++ []
def dkwX0_sortOf_0 : List UInt8 := [42, 193, 0, 88, 153, 0, 5, 3, 172, 42, 193, 0, 90, 153, 0, 5, 4, 172, 42, 193, 0, 92]
abbrev dktX0_sortOf_0 : List UInt8 := dkwX0_sortOf_0 ++ dktX0_sortOf_1
theorem dksX0_sortOf_0 : cX0_sortOf.data.toList.drop 0 = dktX0_sortOf_0 := by decide +kernel
theorem dksX0_sortOf_1 : cX0_sortOf.data.toList.drop 22 = dktX0_sortOf_1 := dk_seg dksX0_sortOf_0 22 rfl rfl
theorem dX0_sortOf_0 : decode cX0_sortOf 0 = .ok (.aload_n 0, 1) := dk_42 (dk_at dksX0_sortOf_0 0 rfl rfl)
theorem dX0_sortOf_1 : decode cX0_sortOf 1 = .ok (.instanceof 88, 3) := dk_193 0 88 (dk_at dksX0_sortOf_0 1 rfl rfl)
theorem dX0_sortOf_4 : decode cX0_sortOf 4 = .ok (.ifCond .eq 5, 3) := dk_153 0 5 (dk_at dksX0_sortOf_0 4 rfl rfl)
theorem dX0_sortOf_7 : decode cX0_sortOf 7 = .ok (.iconst 0, 1) := dk_3 (dk_at dksX0_sortOf_0 7 rfl rfl)
theorem dX0_sortOf_8 : decode cX0_sortOf 8 = .ok (.ireturn, 1) := dk_172 (dk_at dksX0_sortOf_0 8 rfl rfl)
theorem dX0_sortOf_9 : decode cX0_sortOf 9 = .ok (.aload_n 0, 1) := dk_42 (dk_at dksX0_sortOf_0 9 rfl rfl)
theorem dX0_sortOf_10 : decode cX0_sortOf 10 = .ok (.instanceof 90, 3) := dk_193 0 90 (dk_at dksX0_sortOf_0 10 rfl rfl)
theorem dX0_sortOf_13 : decode cX0_sortOf 13 = .ok (.ifCond .eq 5, 3) := dk_153 0 5 (dk_at dksX0_sortOf_0 13 rfl rfl)
theorem dX0_sortOf_16 : decode cX0_sortOf 16 = .ok (.iconst 1, 1) := dk_4 (dk_at dksX0_sortOf_0 16 rfl rfl)
theorem dX0_sortOf_17 : decode cX0_sortOf 17 = .ok (.ireturn, 1) := dk_172 (dk_at dksX0_sortOf_0 17 rfl rfl)
theorem dX0_sortOf_18 : decode cX0_sortOf 18 = .ok (.aload_n 0, 1) := dk_42 (dk_at dksX0_sortOf_0 18 rfl rfl)
theorem dX0_sortOf_19 : decode cX0_sortOf 19 = .ok (.instanceof 92, 3) := dk_193 0 92 (dk_at dksX0_sortOf_0 19 rfl rfl)
theorem dX0_sortOf_22 : decode cX0_sortOf 22 = .ok (.ifCond .eq 5, 3) := dk_153 0 5 (dk_at dksX0_sortOf_1 0 rfl rfl)
theorem dX0_sortOf_25 : decode cX0_sortOf 25 = .ok (.iconst 2, 1) := dk_5 (dk_at dksX0_sortOf_1 3 rfl rfl)
theorem dX0_sortOf_26 : decode cX0_sortOf 26 = .ok (.ireturn, 1) := dk_172 (dk_at dksX0_sortOf_1 4 rfl rfl)
theorem dX0_sortOf_27 : decode cX0_sortOf 27 = .ok (.aload_n 0, 1) := dk_42 (dk_at dksX0_sortOf_1 5 rfl rfl)
theorem dX0_sortOf_28 : decode cX0_sortOf 28 = .ok (.instanceof 93, 3) := dk_193 0 93 (dk_at dksX0_sortOf_1 6 rfl rfl)
theorem dX0_sortOf_31 : decode cX0_sortOf 31 = .ok (.ifCond .eq 7, 3) := dk_153 0 7 (dk_at dksX0_sortOf_1 9 rfl rfl)
theorem dX0_sortOf_34 : decode cX0_sortOf 34 = .ok (.iconst 3, 1) := dk_6 (dk_at dksX0_sortOf_1 12 rfl rfl)
theorem dX0_sortOf_35 : decode cX0_sortOf 35 = .ok (.goto 4, 3) := dk_167 0 4 (dk_at dksX0_sortOf_1 13 rfl rfl)
theorem dX0_sortOf_38 : decode cX0_sortOf 38 = .ok (.iconst 4, 1) := dk_7 (dk_at dksX0_sortOf_1 16 rfl rfl)
theorem dX0_sortOf_39 : decode cX0_sortOf 39 = .ok (.ireturn, 1) := dk_172 (dk_at dksX0_sortOf_1 17 rfl rfl)
abbrev cX0_copy : ByteArray := prog_1_method_20_code
def yX0_copy : MethodName := ⟨RX0, "copy", "(IIIII)I"⟩
def dkwX0_copy_4 : List UInt8 := [16, 173, 182, 0, 104, 172, 58, 8, 42, 16, 174, 182, 0, 104, 172]
abbrev dktX0_copy_4 : List UInt8 := dkwX0_copy_4 ++ []
def dkwX0_copy_3 : List UInt8 := [25, 7, 21, 4, 21, 5, 184, 0, 136, 21, 5, 172, 58, 8, 42, 16, 172, 182, 0, 104, 172, 58, 8, 42]
abbrev dktX0_copy_3 : List UInt8 := dkwX0_copy_3 ++ dktX0_copy_4
def dkwX0_copy_2 : List UInt8 := [193, 0, 2, 154, 0, 11, 25, 7, 193, 0, 2, 153, 0, 10, 42, 16, 173, 182, 0, 104, 172, 25, 6, 29]
abbrev dktX0_copy_2 : List UInt8 := dkwX0_copy_2 ++ dktX0_copy_3
def dkwX0_copy_1 : List UInt8 := [180, 0, 27, 27, 50, 180, 0, 112, 58, 6, 42, 180, 0, 27, 28, 50, 180, 0, 112, 58, 7, 25, 6]
abbrev dktX0_copy_1 : List UInt8 := dkwX0_copy_1 ++ dktX0_copy_2
def dkwX0_copy_0 : List UInt8 := [27, 184, 0, 101, 153, 0, 10, 28, 184, 0, 101, 154, 0, 10, 42, 16, 174, 182, 0, 104, 172, 42]
abbrev dktX0_copy_0 : List UInt8 := dkwX0_copy_0 ++ dktX0_copy_1
theorem dksX0_copy_0 : cX0_copy.data.toList.drop 0 = dktX0_copy_0 := by decide +kernel
theorem dksX0_copy_1 : cX0_copy.data.toList.drop 22 = dktX0_copy_1 := dk_seg dksX0_copy_0 22 rfl rfl
theorem dksX0_copy_2 : cX0_copy.data.toList.drop 45 = dktX0_copy_2 := dk_seg dksX0_copy_1 23 rfl rfl
theorem dksX0_copy_3 : cX0_copy.data.toList.drop 69 = dktX0_copy_3 := dk_seg dksX0_copy_2 24 rfl rfl
theorem dksX0_copy_4 : cX0_copy.data.toList.drop 93 = dktX0_copy_4 := dk_seg dksX0_copy_3 24 rfl rfl
theorem dX0_copy_0 : decode cX0_copy 0 = .ok (.iload_n 1, 1) := dk_27 (dk_at dksX0_copy_0 0 rfl rfl)
theorem dX0_copy_1 : decode cX0_copy 1 = .ok (.invokestatic 101, 3) := dk_184 0 101 (dk_at dksX0_copy_0 1 rfl rfl)
theorem dX0_copy_4 : decode cX0_copy 4 = .ok (.ifCond .eq 10, 3) := dk_153 0 10 (dk_at dksX0_copy_0 4 rfl rfl)
theorem dX0_copy_7 : decode cX0_copy 7 = .ok (.iload_n 2, 1) := dk_28 (dk_at dksX0_copy_0 7 rfl rfl)
theorem dX0_copy_8 : decode cX0_copy 8 = .ok (.invokestatic 101, 3) := dk_184 0 101 (dk_at dksX0_copy_0 8 rfl rfl)
theorem dX0_copy_11 : decode cX0_copy 11 = .ok (.ifCond .ne 10, 3) := dk_154 0 10 (dk_at dksX0_copy_0 11 rfl rfl)
theorem dX0_copy_14 : decode cX0_copy 14 = .ok (.aload_n 0, 1) := dk_42 (dk_at dksX0_copy_0 14 rfl rfl)
theorem dX0_copy_15 : decode cX0_copy 15 = .ok (.bipush (-82), 2) := dk_16 174 (dk_at dksX0_copy_0 15 rfl rfl)
theorem dX0_copy_17 : decode cX0_copy 17 = .ok (.invokevirtual 104, 3) := dk_182 0 104 (dk_at dksX0_copy_0 17 rfl rfl)
theorem dX0_copy_20 : decode cX0_copy 20 = .ok (.ireturn, 1) := dk_172 (dk_at dksX0_copy_0 20 rfl rfl)
theorem dX0_copy_21 : decode cX0_copy 21 = .ok (.aload_n 0, 1) := dk_42 (dk_at dksX0_copy_0 21 rfl rfl)
theorem dX0_copy_22 : decode cX0_copy 22 = .ok (.getfield 27, 3) := dk_180 0 27 (dk_at dksX0_copy_1 0 rfl rfl)
theorem dX0_copy_25 : decode cX0_copy 25 = .ok (.iload_n 1, 1) := dk_27 (dk_at dksX0_copy_1 3 rfl rfl)
theorem dX0_copy_26 : decode cX0_copy 26 = .ok (.aaload, 1) := dk_50 (dk_at dksX0_copy_1 4 rfl rfl)
theorem dX0_copy_27 : decode cX0_copy 27 = .ok (.getfield 112, 3) := dk_180 0 112 (dk_at dksX0_copy_1 5 rfl rfl)
theorem dX0_copy_30 : decode cX0_copy 30 = .ok (.astore 6, 2) := dk_58 6 (dk_at dksX0_copy_1 8 rfl rfl)
theorem dX0_copy_32 : decode cX0_copy 32 = .ok (.aload_n 0, 1) := dk_42 (dk_at dksX0_copy_1 10 rfl rfl)
theorem dX0_copy_33 : decode cX0_copy 33 = .ok (.getfield 27, 3) := dk_180 0 27 (dk_at dksX0_copy_1 11 rfl rfl)
theorem dX0_copy_36 : decode cX0_copy 36 = .ok (.iload_n 2, 1) := dk_28 (dk_at dksX0_copy_1 14 rfl rfl)
theorem dX0_copy_37 : decode cX0_copy 37 = .ok (.aaload, 1) := dk_50 (dk_at dksX0_copy_1 15 rfl rfl)
theorem dX0_copy_38 : decode cX0_copy 38 = .ok (.getfield 112, 3) := dk_180 0 112 (dk_at dksX0_copy_1 16 rfl rfl)
theorem dX0_copy_41 : decode cX0_copy 41 = .ok (.astore 7, 2) := dk_58 7 (dk_at dksX0_copy_1 19 rfl rfl)
theorem dX0_copy_43 : decode cX0_copy 43 = .ok (.aload 6, 2) := dk_25 6 (dk_at dksX0_copy_1 21 rfl rfl)
theorem dX0_copy_45 : decode cX0_copy 45 = .ok (.instanceof 2, 3) := dk_193 0 2 (dk_at dksX0_copy_2 0 rfl rfl)
theorem dX0_copy_48 : decode cX0_copy 48 = .ok (.ifCond .ne 11, 3) := dk_154 0 11 (dk_at dksX0_copy_2 3 rfl rfl)
theorem dX0_copy_51 : decode cX0_copy 51 = .ok (.aload 7, 2) := dk_25 7 (dk_at dksX0_copy_2 6 rfl rfl)
theorem dX0_copy_53 : decode cX0_copy 53 = .ok (.instanceof 2, 3) := dk_193 0 2 (dk_at dksX0_copy_2 8 rfl rfl)
theorem dX0_copy_56 : decode cX0_copy 56 = .ok (.ifCond .eq 10, 3) := dk_153 0 10 (dk_at dksX0_copy_2 11 rfl rfl)
theorem dX0_copy_59 : decode cX0_copy 59 = .ok (.aload_n 0, 1) := dk_42 (dk_at dksX0_copy_2 14 rfl rfl)
theorem dX0_copy_60 : decode cX0_copy 60 = .ok (.bipush (-83), 2) := dk_16 173 (dk_at dksX0_copy_2 15 rfl rfl)
theorem dX0_copy_62 : decode cX0_copy 62 = .ok (.invokevirtual 104, 3) := dk_182 0 104 (dk_at dksX0_copy_2 17 rfl rfl)
theorem dX0_copy_65 : decode cX0_copy 65 = .ok (.ireturn, 1) := dk_172 (dk_at dksX0_copy_2 20 rfl rfl)
theorem dX0_copy_66 : decode cX0_copy 66 = .ok (.aload 6, 2) := dk_25 6 (dk_at dksX0_copy_2 21 rfl rfl)
theorem dX0_copy_68 : decode cX0_copy 68 = .ok (.iload_n 3, 1) := dk_29 (dk_at dksX0_copy_2 23 rfl rfl)
theorem dX0_copy_69 : decode cX0_copy 69 = .ok (.aload 7, 2) := dk_25 7 (dk_at dksX0_copy_3 0 rfl rfl)
theorem dX0_copy_71 : decode cX0_copy 71 = .ok (.iload 4, 2) := dk_21 4 (dk_at dksX0_copy_3 2 rfl rfl)
theorem dX0_copy_73 : decode cX0_copy 73 = .ok (.iload 5, 2) := dk_21 5 (dk_at dksX0_copy_3 4 rfl rfl)
theorem dX0_copy_75 : decode cX0_copy 75 = .ok (.invokestatic 136, 3) := dk_184 0 136 (dk_at dksX0_copy_3 6 rfl rfl)
theorem dX0_copy_78 : decode cX0_copy 78 = .ok (.iload 5, 2) := dk_21 5 (dk_at dksX0_copy_3 9 rfl rfl)
theorem dX0_copy_80 : decode cX0_copy 80 = .ok (.ireturn, 1) := dk_172 (dk_at dksX0_copy_3 11 rfl rfl)
theorem dX0_copy_81 : decode cX0_copy 81 = .ok (.astore 8, 2) := dk_58 8 (dk_at dksX0_copy_3 12 rfl rfl)
theorem dX0_copy_83 : decode cX0_copy 83 = .ok (.aload_n 0, 1) := dk_42 (dk_at dksX0_copy_3 14 rfl rfl)
theorem dX0_copy_84 : decode cX0_copy 84 = .ok (.bipush (-84), 2) := dk_16 172 (dk_at dksX0_copy_3 15 rfl rfl)
theorem dX0_copy_86 : decode cX0_copy 86 = .ok (.invokevirtual 104, 3) := dk_182 0 104 (dk_at dksX0_copy_3 17 rfl rfl)
theorem dX0_copy_89 : decode cX0_copy 89 = .ok (.ireturn, 1) := dk_172 (dk_at dksX0_copy_3 20 rfl rfl)
theorem dX0_copy_90 : decode cX0_copy 90 = .ok (.astore 8, 2) := dk_58 8 (dk_at dksX0_copy_3 21 rfl rfl)
theorem dX0_copy_92 : decode cX0_copy 92 = .ok (.aload_n 0, 1) := dk_42 (dk_at dksX0_copy_3 23 rfl rfl)
theorem dX0_copy_93 : decode cX0_copy 93 = .ok (.bipush (-83), 2) := dk_16 173 (dk_at dksX0_copy_4 0 rfl rfl)
theorem dX0_copy_95 : decode cX0_copy 95 = .ok (.invokevirtual 104, 3) := dk_182 0 104 (dk_at dksX0_copy_4 2 rfl rfl)
theorem dX0_copy_98 : decode cX0_copy 98 = .ok (.ireturn, 1) := dk_172 (dk_at dksX0_copy_4 5 rfl rfl)
theorem dX0_copy_99 : decode cX0_copy 99 = .ok (.astore 8, 2) := dk_58 8 (dk_at dksX0_copy_4 6 rfl rfl)
theorem dX0_copy_101 : decode cX0_copy 101 = .ok (.aload_n 0, 1) := dk_42 (dk_at dksX0_copy_4 8 rfl rfl)
theorem dX0_copy_102 : decode cX0_copy 102 = .ok (.bipush (-82), 2) := dk_16 174 (dk_at dksX0_copy_4 9 rfl rfl)
theorem dX0_copy_104 : decode cX0_copy 104 = .ok (.invokevirtual 104, 3) := dk_182 0 104 (dk_at dksX0_copy_4 11 rfl rfl)
theorem dX0_copy_107 : decode cX0_copy 107 = .ok (.ireturn, 1) := dk_172 (dk_at dksX0_copy_4 14 rfl rfl)
abbrev cX0_element : ByteArray := prog_1_method_21_code
def yX0_element : MethodName := ⟨RX0, "element", "(II)J"⟩
def dkwX0_element_1 : List UInt8 := [173]
abbrev dktX0_element_1 : List UInt8 := dkwX0_element_1 ++ []
def dkwX0_element_0 : List UInt8 := [27, 184, 0, 101, 154, 0, 5, 9, 173, 42, 27, 182, 0, 123, 28, 184, 0, 148, 173, 78, 9, 173, 78, 9]
abbrev dktX0_element_0 : List UInt8 := dkwX0_element_0 ++ dktX0_element_1
theorem dksX0_element_0 : cX0_element.data.toList.drop 0 = dktX0_element_0 := by decide +kernel
theorem dksX0_element_1 : cX0_element.data.toList.drop 24 = dktX0_element_1 := dk_seg dksX0_element_0 24 rfl rfl
theorem dX0_element_0 : decode cX0_element 0 = .ok (.iload_n 1, 1) := dk_27 (dk_at dksX0_element_0 0 rfl rfl)
theorem dX0_element_1 : decode cX0_element 1 = .ok (.invokestatic 101, 3) := dk_184 0 101 (dk_at dksX0_element_0 1 rfl rfl)
theorem dX0_element_4 : decode cX0_element 4 = .ok (.ifCond .ne 5, 3) := dk_154 0 5 (dk_at dksX0_element_0 4 rfl rfl)
theorem dX0_element_7 : decode cX0_element 7 = .ok (.lconst 0, 1) := dk_9 (dk_at dksX0_element_0 7 rfl rfl)
theorem dX0_element_8 : decode cX0_element 8 = .ok (.lreturn, 1) := dk_173 (dk_at dksX0_element_0 8 rfl rfl)
theorem dX0_element_9 : decode cX0_element 9 = .ok (.aload_n 0, 1) := dk_42 (dk_at dksX0_element_0 9 rfl rfl)
theorem dX0_element_10 : decode cX0_element 10 = .ok (.iload_n 1, 1) := dk_27 (dk_at dksX0_element_0 10 rfl rfl)
theorem dX0_element_11 : decode cX0_element 11 = .ok (.invokevirtual 123, 3) := dk_182 0 123 (dk_at dksX0_element_0 11 rfl rfl)
theorem dX0_element_14 : decode cX0_element 14 = .ok (.iload_n 2, 1) := dk_28 (dk_at dksX0_element_0 14 rfl rfl)
theorem dX0_element_15 : decode cX0_element 15 = .ok (.invokestatic 148, 3) := dk_184 0 148 (dk_at dksX0_element_0 15 rfl rfl)
theorem dX0_element_18 : decode cX0_element 18 = .ok (.lreturn, 1) := dk_173 (dk_at dksX0_element_0 18 rfl rfl)
theorem dX0_element_19 : decode cX0_element 19 = .ok (.astore_n 3, 1) := dk_78 (dk_at dksX0_element_0 19 rfl rfl)
theorem dX0_element_20 : decode cX0_element 20 = .ok (.lconst 0, 1) := dk_9 (dk_at dksX0_element_0 20 rfl rfl)
theorem dX0_element_21 : decode cX0_element 21 = .ok (.lreturn, 1) := dk_173 (dk_at dksX0_element_0 21 rfl rfl)
theorem dX0_element_22 : decode cX0_element 22 = .ok (.astore_n 3, 1) := dk_78 (dk_at dksX0_element_0 22 rfl rfl)
theorem dX0_element_23 : decode cX0_element 23 = .ok (.lconst 0, 1) := dk_9 (dk_at dksX0_element_0 23 rfl rfl)
theorem dX0_element_24 : decode cX0_element 24 = .ok (.lreturn, 1) := dk_173 (dk_at dksX0_element_1 0 rfl rfl)
abbrev cX0_elementOf : ByteArray := prog_1_method_15_code
def yX0_elementOf : MethodName := ⟨RX0, "elementOf", "(Ljava/lang/Object;I)J"⟩
def dkwX0_elementOf_3 : List UInt8 := [42, 192, 0, 93, 27, 47, 173, 42, 192, 0, 99, 27, 51, 153, 0, 7, 10, 167, 0, 4, 9, 173]
abbrev dktX0_elementOf_3 : List UInt8 := dkwX0_elementOf_3 ++ []
def dkwX0_elementOf_2 : List UInt8 := [42, 192, 0, 88, 27, 51, 133, 173, 42, 192, 0, 90, 27, 53, 133, 173, 42, 192, 0, 92, 27, 46, 133, 173]
abbrev dktX0_elementOf_2 : List UInt8 := dkwX0_elementOf_2 ++ dktX0_elementOf_3
def dkwX0_elementOf_1 : List UInt8 := [170, 0, 0, 0, 0, 0, 0, 63, 0, 0, 0, 0, 0, 0, 0, 3, 0, 0, 0, 32, 0, 0, 0, 40, 0, 0, 0, 48, 0, 0, 0, 56]
abbrev dktX0_elementOf_1 : List UInt8 := dkwX0_elementOf_1 ++ dktX0_elementOf_2
def dkwX0_elementOf_0 : List UInt8 := [42, 184, 0, 95]
abbrev dktX0_elementOf_0 : List UInt8 := dkwX0_elementOf_0 ++ dktX0_elementOf_1
theorem dksX0_elementOf_0 : cX0_elementOf.data.toList.drop 0 = dktX0_elementOf_0 := by decide +kernel
theorem dksX0_elementOf_1 : cX0_elementOf.data.toList.drop 4 = dktX0_elementOf_1 := dk_seg dksX0_elementOf_0 4 rfl rfl
theorem dksX0_elementOf_2 : cX0_elementOf.data.toList.drop 36 = dktX0_elementOf_2 := dk_seg dksX0_elementOf_1 32 rfl rfl
theorem dksX0_elementOf_3 : cX0_elementOf.data.toList.drop 60 = dktX0_elementOf_3 := dk_seg dksX0_elementOf_2 24 rfl rfl
theorem dX0_elementOf_0 : decode cX0_elementOf 0 = .ok (.aload_n 0, 1) := dk_42 (dk_at dksX0_elementOf_0 0 rfl rfl)
theorem dX0_elementOf_1 : decode cX0_elementOf 1 = .ok (.invokestatic 95, 3) := dk_184 0 95 (dk_at dksX0_elementOf_0 1 rfl rfl)
theorem dX0_elementOf_4 : decode cX0_elementOf 4 = .ok (.tableswitch 63 0 3 #[32, 40, 48, 56], 32) := by decide +kernel
theorem dX0_elementOf_36 : decode cX0_elementOf 36 = .ok (.aload_n 0, 1) := dk_42 (dk_at dksX0_elementOf_2 0 rfl rfl)
theorem dX0_elementOf_37 : decode cX0_elementOf 37 = .ok (.checkcast 88, 3) := dk_192 0 88 (dk_at dksX0_elementOf_2 1 rfl rfl)
theorem dX0_elementOf_40 : decode cX0_elementOf 40 = .ok (.iload_n 1, 1) := dk_27 (dk_at dksX0_elementOf_2 4 rfl rfl)
theorem dX0_elementOf_41 : decode cX0_elementOf 41 = .ok (.baload, 1) := dk_51 (dk_at dksX0_elementOf_2 5 rfl rfl)
theorem dX0_elementOf_42 : decode cX0_elementOf 42 = .ok (.i2l, 1) := dk_133 (dk_at dksX0_elementOf_2 6 rfl rfl)
theorem dX0_elementOf_43 : decode cX0_elementOf 43 = .ok (.lreturn, 1) := dk_173 (dk_at dksX0_elementOf_2 7 rfl rfl)
theorem dX0_elementOf_44 : decode cX0_elementOf 44 = .ok (.aload_n 0, 1) := dk_42 (dk_at dksX0_elementOf_2 8 rfl rfl)
theorem dX0_elementOf_45 : decode cX0_elementOf 45 = .ok (.checkcast 90, 3) := dk_192 0 90 (dk_at dksX0_elementOf_2 9 rfl rfl)
theorem dX0_elementOf_48 : decode cX0_elementOf 48 = .ok (.iload_n 1, 1) := dk_27 (dk_at dksX0_elementOf_2 12 rfl rfl)
theorem dX0_elementOf_49 : decode cX0_elementOf 49 = .ok (.saload, 1) := dk_53 (dk_at dksX0_elementOf_2 13 rfl rfl)
theorem dX0_elementOf_50 : decode cX0_elementOf 50 = .ok (.i2l, 1) := dk_133 (dk_at dksX0_elementOf_2 14 rfl rfl)
theorem dX0_elementOf_51 : decode cX0_elementOf 51 = .ok (.lreturn, 1) := dk_173 (dk_at dksX0_elementOf_2 15 rfl rfl)
theorem dX0_elementOf_52 : decode cX0_elementOf 52 = .ok (.aload_n 0, 1) := dk_42 (dk_at dksX0_elementOf_2 16 rfl rfl)
theorem dX0_elementOf_53 : decode cX0_elementOf 53 = .ok (.checkcast 92, 3) := dk_192 0 92 (dk_at dksX0_elementOf_2 17 rfl rfl)
theorem dX0_elementOf_56 : decode cX0_elementOf 56 = .ok (.iload_n 1, 1) := dk_27 (dk_at dksX0_elementOf_2 20 rfl rfl)
theorem dX0_elementOf_57 : decode cX0_elementOf 57 = .ok (.iaload, 1) := dk_46 (dk_at dksX0_elementOf_2 21 rfl rfl)
theorem dX0_elementOf_58 : decode cX0_elementOf 58 = .ok (.i2l, 1) := dk_133 (dk_at dksX0_elementOf_2 22 rfl rfl)
theorem dX0_elementOf_59 : decode cX0_elementOf 59 = .ok (.lreturn, 1) := dk_173 (dk_at dksX0_elementOf_2 23 rfl rfl)
theorem dX0_elementOf_60 : decode cX0_elementOf 60 = .ok (.aload_n 0, 1) := dk_42 (dk_at dksX0_elementOf_3 0 rfl rfl)
theorem dX0_elementOf_61 : decode cX0_elementOf 61 = .ok (.checkcast 93, 3) := dk_192 0 93 (dk_at dksX0_elementOf_3 1 rfl rfl)
theorem dX0_elementOf_64 : decode cX0_elementOf 64 = .ok (.iload_n 1, 1) := dk_27 (dk_at dksX0_elementOf_3 4 rfl rfl)
theorem dX0_elementOf_65 : decode cX0_elementOf 65 = .ok (.laload, 1) := dk_47 (dk_at dksX0_elementOf_3 5 rfl rfl)
theorem dX0_elementOf_66 : decode cX0_elementOf 66 = .ok (.lreturn, 1) := dk_173 (dk_at dksX0_elementOf_3 6 rfl rfl)
theorem dX0_elementOf_67 : decode cX0_elementOf 67 = .ok (.aload_n 0, 1) := dk_42 (dk_at dksX0_elementOf_3 7 rfl rfl)
theorem dX0_elementOf_68 : decode cX0_elementOf 68 = .ok (.checkcast 99, 3) := dk_192 0 99 (dk_at dksX0_elementOf_3 8 rfl rfl)
theorem dX0_elementOf_71 : decode cX0_elementOf 71 = .ok (.iload_n 1, 1) := dk_27 (dk_at dksX0_elementOf_3 11 rfl rfl)
theorem dX0_elementOf_72 : decode cX0_elementOf 72 = .ok (.baload, 1) := dk_51 (dk_at dksX0_elementOf_3 12 rfl rfl)
theorem dX0_elementOf_73 : decode cX0_elementOf 73 = .ok (.ifCond .eq 7, 3) := dk_153 0 7 (dk_at dksX0_elementOf_3 13 rfl rfl)
theorem dX0_elementOf_76 : decode cX0_elementOf 76 = .ok (.lconst 1, 1) := dk_10 (dk_at dksX0_elementOf_3 16 rfl rfl)
theorem dX0_elementOf_77 : decode cX0_elementOf 77 = .ok (.goto 4, 3) := dk_167 0 4 (dk_at dksX0_elementOf_3 17 rfl rfl)
theorem dX0_elementOf_80 : decode cX0_elementOf 80 = .ok (.lconst 0, 1) := dk_9 (dk_at dksX0_elementOf_3 20 rfl rfl)
theorem dX0_elementOf_81 : decode cX0_elementOf 81 = .ok (.lreturn, 1) := dk_173 (dk_at dksX0_elementOf_3 21 rfl rfl)
abbrev cX0_holds : ByteArray := prog_1_method_22_code
def yX0_holds : MethodName := ⟨RX0, "holds", "(I)I"⟩
def dkwX0_holds_2 : List UInt8 := [182, 0, 152, 96, 167, 0, 7, 44, 184, 0, 95, 172]
abbrev dktX0_holds_2 : List UInt8 := dkwX0_holds_2 ++ []
def dkwX0_holds_1 : List UInt8 := [180, 0, 27, 27, 50, 180, 0, 112, 77, 44, 193, 0, 2, 153, 0, 16, 16, 10, 44, 192, 0, 2]
abbrev dktX0_holds_1 : List UInt8 := dkwX0_holds_1 ++ dktX0_holds_2
def dkwX0_holds_0 : List UInt8 := [27, 184, 0, 101, 153, 0, 15, 42, 180, 0, 27, 27, 50, 180, 0, 112, 199, 0, 5, 2, 172, 42]
abbrev dktX0_holds_0 : List UInt8 := dkwX0_holds_0 ++ dktX0_holds_1
theorem dksX0_holds_0 : cX0_holds.data.toList.drop 0 = dktX0_holds_0 := by decide +kernel
theorem dksX0_holds_1 : cX0_holds.data.toList.drop 22 = dktX0_holds_1 := dk_seg dksX0_holds_0 22 rfl rfl
theorem dksX0_holds_2 : cX0_holds.data.toList.drop 44 = dktX0_holds_2 := dk_seg dksX0_holds_1 22 rfl rfl
theorem dX0_holds_0 : decode cX0_holds 0 = .ok (.iload_n 1, 1) := dk_27 (dk_at dksX0_holds_0 0 rfl rfl)
theorem dX0_holds_1 : decode cX0_holds 1 = .ok (.invokestatic 101, 3) := dk_184 0 101 (dk_at dksX0_holds_0 1 rfl rfl)
theorem dX0_holds_4 : decode cX0_holds 4 = .ok (.ifCond .eq 15, 3) := dk_153 0 15 (dk_at dksX0_holds_0 4 rfl rfl)
theorem dX0_holds_7 : decode cX0_holds 7 = .ok (.aload_n 0, 1) := dk_42 (dk_at dksX0_holds_0 7 rfl rfl)
theorem dX0_holds_8 : decode cX0_holds 8 = .ok (.getfield 27, 3) := dk_180 0 27 (dk_at dksX0_holds_0 8 rfl rfl)
theorem dX0_holds_11 : decode cX0_holds 11 = .ok (.iload_n 1, 1) := dk_27 (dk_at dksX0_holds_0 11 rfl rfl)
theorem dX0_holds_12 : decode cX0_holds 12 = .ok (.aaload, 1) := dk_50 (dk_at dksX0_holds_0 12 rfl rfl)
theorem dX0_holds_13 : decode cX0_holds 13 = .ok (.getfield 112, 3) := dk_180 0 112 (dk_at dksX0_holds_0 13 rfl rfl)
theorem dX0_holds_16 : decode cX0_holds 16 = .ok (.ifnonnull 5, 3) := dk_199 0 5 (dk_at dksX0_holds_0 16 rfl rfl)
theorem dX0_holds_19 : decode cX0_holds 19 = .ok (.iconst (-1), 1) := dk_2 (dk_at dksX0_holds_0 19 rfl rfl)
theorem dX0_holds_20 : decode cX0_holds 20 = .ok (.ireturn, 1) := dk_172 (dk_at dksX0_holds_0 20 rfl rfl)
theorem dX0_holds_21 : decode cX0_holds 21 = .ok (.aload_n 0, 1) := dk_42 (dk_at dksX0_holds_0 21 rfl rfl)
theorem dX0_holds_22 : decode cX0_holds 22 = .ok (.getfield 27, 3) := dk_180 0 27 (dk_at dksX0_holds_1 0 rfl rfl)
theorem dX0_holds_25 : decode cX0_holds 25 = .ok (.iload_n 1, 1) := dk_27 (dk_at dksX0_holds_1 3 rfl rfl)
theorem dX0_holds_26 : decode cX0_holds 26 = .ok (.aaload, 1) := dk_50 (dk_at dksX0_holds_1 4 rfl rfl)
theorem dX0_holds_27 : decode cX0_holds 27 = .ok (.getfield 112, 3) := dk_180 0 112 (dk_at dksX0_holds_1 5 rfl rfl)
theorem dX0_holds_30 : decode cX0_holds 30 = .ok (.astore_n 2, 1) := dk_77 (dk_at dksX0_holds_1 8 rfl rfl)
theorem dX0_holds_31 : decode cX0_holds 31 = .ok (.aload_n 2, 1) := dk_44 (dk_at dksX0_holds_1 9 rfl rfl)
theorem dX0_holds_32 : decode cX0_holds 32 = .ok (.instanceof 2, 3) := dk_193 0 2 (dk_at dksX0_holds_1 10 rfl rfl)
theorem dX0_holds_35 : decode cX0_holds 35 = .ok (.ifCond .eq 16, 3) := dk_153 0 16 (dk_at dksX0_holds_1 13 rfl rfl)
theorem dX0_holds_38 : decode cX0_holds 38 = .ok (.bipush 10, 2) := dk_16 10 (dk_at dksX0_holds_1 16 rfl rfl)
theorem dX0_holds_40 : decode cX0_holds 40 = .ok (.aload_n 2, 1) := dk_44 (dk_at dksX0_holds_1 18 rfl rfl)
theorem dX0_holds_41 : decode cX0_holds 41 = .ok (.checkcast 2, 3) := dk_192 0 2 (dk_at dksX0_holds_1 19 rfl rfl)
theorem dX0_holds_44 : decode cX0_holds 44 = .ok (.invokevirtual 152, 3) := dk_182 0 152 (dk_at dksX0_holds_2 0 rfl rfl)
theorem dX0_holds_47 : decode cX0_holds 47 = .ok (.iadd, 1) := dk_96 (dk_at dksX0_holds_2 3 rfl rfl)
theorem dX0_holds_48 : decode cX0_holds 48 = .ok (.goto 7, 3) := dk_167 0 7 (dk_at dksX0_holds_2 4 rfl rfl)
theorem dX0_holds_51 : decode cX0_holds 51 = .ok (.aload_n 2, 1) := dk_44 (dk_at dksX0_holds_2 7 rfl rfl)
theorem dX0_holds_52 : decode cX0_holds 52 = .ok (.invokestatic 95, 3) := dk_184 0 95 (dk_at dksX0_holds_2 8 rfl rfl)
theorem dX0_holds_55 : decode cX0_holds 55 = .ok (.ireturn, 1) := dk_172 (dk_at dksX0_holds_2 11 rfl rfl)
abbrev cX0_show : ByteArray := prog_1_method_23_code
def yX0_show : MethodName := ⟨RX0, "show", "(III)I"⟩
def dkwX0_show_2 : List UInt8 := [180, 0, 69, 28, 182, 0, 81, 192, 0, 82, 180, 0, 84, 29, 182, 0, 159, 181, 0, 112, 4, 172]
abbrev dktX0_show_2 : List UInt8 := dkwX0_show_2 ++ []
def dkwX0_show_1 : List UInt8 := [182, 0, 104, 172, 42, 180, 0, 27, 27, 50, 28, 2, 160, 0, 7, 1, 167, 0, 24, 42, 180, 0, 16]
abbrev dktX0_show_1 : List UInt8 := dkwX0_show_1 ++ dktX0_show_2
def dkwX0_show_0 : List UInt8 := [27, 184, 0, 101, 153, 0, 17, 28, 2, 159, 0, 19, 42, 28, 29, 182, 0, 155, 154, 0, 10, 42, 16, 174]
abbrev dktX0_show_0 : List UInt8 := dkwX0_show_0 ++ dktX0_show_1
theorem dksX0_show_0 : cX0_show.data.toList.drop 0 = dktX0_show_0 := by decide +kernel
theorem dksX0_show_1 : cX0_show.data.toList.drop 24 = dktX0_show_1 := dk_seg dksX0_show_0 24 rfl rfl
theorem dksX0_show_2 : cX0_show.data.toList.drop 47 = dktX0_show_2 := dk_seg dksX0_show_1 23 rfl rfl
theorem dX0_show_0 : decode cX0_show 0 = .ok (.iload_n 1, 1) := dk_27 (dk_at dksX0_show_0 0 rfl rfl)
theorem dX0_show_1 : decode cX0_show 1 = .ok (.invokestatic 101, 3) := dk_184 0 101 (dk_at dksX0_show_0 1 rfl rfl)
theorem dX0_show_4 : decode cX0_show 4 = .ok (.ifCond .eq 17, 3) := dk_153 0 17 (dk_at dksX0_show_0 4 rfl rfl)
theorem dX0_show_7 : decode cX0_show 7 = .ok (.iload_n 2, 1) := dk_28 (dk_at dksX0_show_0 7 rfl rfl)
theorem dX0_show_8 : decode cX0_show 8 = .ok (.iconst (-1), 1) := dk_2 (dk_at dksX0_show_0 8 rfl rfl)
theorem dX0_show_9 : decode cX0_show 9 = .ok (.if_icmp .eq 19, 3) := dk_159 0 19 (dk_at dksX0_show_0 9 rfl rfl)
theorem dX0_show_12 : decode cX0_show 12 = .ok (.aload_n 0, 1) := dk_42 (dk_at dksX0_show_0 12 rfl rfl)
theorem dX0_show_13 : decode cX0_show 13 = .ok (.iload_n 2, 1) := dk_28 (dk_at dksX0_show_0 13 rfl rfl)
theorem dX0_show_14 : decode cX0_show 14 = .ok (.iload_n 3, 1) := dk_29 (dk_at dksX0_show_0 14 rfl rfl)
theorem dX0_show_15 : decode cX0_show 15 = .ok (.invokevirtual 155, 3) := dk_182 0 155 (dk_at dksX0_show_0 15 rfl rfl)
theorem dX0_show_18 : decode cX0_show 18 = .ok (.ifCond .ne 10, 3) := dk_154 0 10 (dk_at dksX0_show_0 18 rfl rfl)
theorem dX0_show_21 : decode cX0_show 21 = .ok (.aload_n 0, 1) := dk_42 (dk_at dksX0_show_0 21 rfl rfl)
theorem dX0_show_22 : decode cX0_show 22 = .ok (.bipush (-82), 2) := dk_16 174 (dk_at dksX0_show_0 22 rfl rfl)
theorem dX0_show_24 : decode cX0_show 24 = .ok (.invokevirtual 104, 3) := dk_182 0 104 (dk_at dksX0_show_1 0 rfl rfl)
theorem dX0_show_27 : decode cX0_show 27 = .ok (.ireturn, 1) := dk_172 (dk_at dksX0_show_1 3 rfl rfl)
theorem dX0_show_28 : decode cX0_show 28 = .ok (.aload_n 0, 1) := dk_42 (dk_at dksX0_show_1 4 rfl rfl)
theorem dX0_show_29 : decode cX0_show 29 = .ok (.getfield 27, 3) := dk_180 0 27 (dk_at dksX0_show_1 5 rfl rfl)
theorem dX0_show_32 : decode cX0_show 32 = .ok (.iload_n 1, 1) := dk_27 (dk_at dksX0_show_1 8 rfl rfl)
theorem dX0_show_33 : decode cX0_show 33 = .ok (.aaload, 1) := dk_50 (dk_at dksX0_show_1 9 rfl rfl)
theorem dX0_show_34 : decode cX0_show 34 = .ok (.iload_n 2, 1) := dk_28 (dk_at dksX0_show_1 10 rfl rfl)
theorem dX0_show_35 : decode cX0_show 35 = .ok (.iconst (-1), 1) := dk_2 (dk_at dksX0_show_1 11 rfl rfl)
theorem dX0_show_36 : decode cX0_show 36 = .ok (.if_icmp .ne 7, 3) := dk_160 0 7 (dk_at dksX0_show_1 12 rfl rfl)
theorem dX0_show_39 : decode cX0_show 39 = .ok (.aconst_null, 1) := dk_1 (dk_at dksX0_show_1 15 rfl rfl)
theorem dX0_show_40 : decode cX0_show 40 = .ok (.goto 24, 3) := dk_167 0 24 (dk_at dksX0_show_1 16 rfl rfl)
theorem dX0_show_43 : decode cX0_show 43 = .ok (.aload_n 0, 1) := dk_42 (dk_at dksX0_show_1 19 rfl rfl)
theorem dX0_show_44 : decode cX0_show 44 = .ok (.getfield 16, 3) := dk_180 0 16 (dk_at dksX0_show_1 20 rfl rfl)
theorem dX0_show_47 : decode cX0_show 47 = .ok (.getfield 69, 3) := dk_180 0 69 (dk_at dksX0_show_2 0 rfl rfl)
theorem dX0_show_50 : decode cX0_show 50 = .ok (.iload_n 2, 1) := dk_28 (dk_at dksX0_show_2 3 rfl rfl)
theorem dX0_show_51 : decode cX0_show 51 = .ok (.invokevirtual 81, 3) := dk_182 0 81 (dk_at dksX0_show_2 4 rfl rfl)
theorem dX0_show_54 : decode cX0_show 54 = .ok (.checkcast 82, 3) := dk_192 0 82 (dk_at dksX0_show_2 7 rfl rfl)
theorem dX0_show_57 : decode cX0_show 57 = .ok (.getfield 84, 3) := dk_180 0 84 (dk_at dksX0_show_2 10 rfl rfl)
theorem dX0_show_60 : decode cX0_show 60 = .ok (.iload_n 3, 1) := dk_29 (dk_at dksX0_show_2 13 rfl rfl)
theorem dX0_show_61 : decode cX0_show 61 = .ok (.invokevirtual 159, 3) := dk_182 0 159 (dk_at dksX0_show_2 14 rfl rfl)
theorem dX0_show_64 : decode cX0_show 64 = .ok (.putfield 112, 3) := dk_181 0 112 (dk_at dksX0_show_2 17 rfl rfl)
theorem dX0_show_67 : decode cX0_show 67 = .ok (.iconst 1, 1) := dk_4 (dk_at dksX0_show_2 20 rfl rfl)
theorem dX0_show_68 : decode cX0_show 68 = .ok (.ireturn, 1) := dk_172 (dk_at dksX0_show_2 21 rfl rfl)
abbrev cX0_isLink : ByteArray := prog_1_method_12_code
def yX0_isLink : MethodName := ⟨RX0, "isLink", "(II)Z"⟩
def dkwX0_isLink_1 : List UInt8 := [180, 0, 84, 182, 0, 1, 4, 100, 184, 0, 39, 153, 0, 7, 4, 167, 0, 4, 3, 172]
abbrev dktX0_isLink_1 : List UInt8 := dkwX0_isLink_1 ++ []
def dkwX0_isLink_0 : List UInt8 := [42, 27, 182, 0, 78, 153, 0, 37, 28, 3, 42, 180, 0, 16, 180, 0, 69, 27, 182, 0, 81, 192, 0, 82]
abbrev dktX0_isLink_0 : List UInt8 := dkwX0_isLink_0 ++ dktX0_isLink_1
theorem dksX0_isLink_0 : cX0_isLink.data.toList.drop 0 = dktX0_isLink_0 := by decide +kernel
theorem dksX0_isLink_1 : cX0_isLink.data.toList.drop 24 = dktX0_isLink_1 := dk_seg dksX0_isLink_0 24 rfl rfl
theorem dX0_isLink_0 : decode cX0_isLink 0 = .ok (.aload_n 0, 1) := dk_42 (dk_at dksX0_isLink_0 0 rfl rfl)
theorem dX0_isLink_1 : decode cX0_isLink 1 = .ok (.iload_n 1, 1) := dk_27 (dk_at dksX0_isLink_0 1 rfl rfl)
theorem dX0_isLink_2 : decode cX0_isLink 2 = .ok (.invokevirtual 78, 3) := dk_182 0 78 (dk_at dksX0_isLink_0 2 rfl rfl)
theorem dX0_isLink_5 : decode cX0_isLink 5 = .ok (.ifCond .eq 37, 3) := dk_153 0 37 (dk_at dksX0_isLink_0 5 rfl rfl)
theorem dX0_isLink_8 : decode cX0_isLink 8 = .ok (.iload_n 2, 1) := dk_28 (dk_at dksX0_isLink_0 8 rfl rfl)
theorem dX0_isLink_9 : decode cX0_isLink 9 = .ok (.iconst 0, 1) := dk_3 (dk_at dksX0_isLink_0 9 rfl rfl)
theorem dX0_isLink_10 : decode cX0_isLink 10 = .ok (.aload_n 0, 1) := dk_42 (dk_at dksX0_isLink_0 10 rfl rfl)
theorem dX0_isLink_11 : decode cX0_isLink 11 = .ok (.getfield 16, 3) := dk_180 0 16 (dk_at dksX0_isLink_0 11 rfl rfl)
theorem dX0_isLink_14 : decode cX0_isLink 14 = .ok (.getfield 69, 3) := dk_180 0 69 (dk_at dksX0_isLink_0 14 rfl rfl)
theorem dX0_isLink_17 : decode cX0_isLink 17 = .ok (.iload_n 1, 1) := dk_27 (dk_at dksX0_isLink_0 17 rfl rfl)
theorem dX0_isLink_18 : decode cX0_isLink 18 = .ok (.invokevirtual 81, 3) := dk_182 0 81 (dk_at dksX0_isLink_0 18 rfl rfl)
theorem dX0_isLink_21 : decode cX0_isLink 21 = .ok (.checkcast 82, 3) := dk_192 0 82 (dk_at dksX0_isLink_0 21 rfl rfl)
theorem dX0_isLink_24 : decode cX0_isLink 24 = .ok (.getfield 84, 3) := dk_180 0 84 (dk_at dksX0_isLink_1 0 rfl rfl)
theorem dX0_isLink_27 : decode cX0_isLink 27 = .ok (.invokevirtual 1, 3) := dk_182 0 1 (dk_at dksX0_isLink_1 3 rfl rfl)
theorem dX0_isLink_30 : decode cX0_isLink 30 = .ok (.iconst 1, 1) := dk_4 (dk_at dksX0_isLink_1 6 rfl rfl)
theorem dX0_isLink_31 : decode cX0_isLink 31 = .ok (.isub, 1) := dk_100 (dk_at dksX0_isLink_1 7 rfl rfl)
theorem dX0_isLink_32 : decode cX0_isLink 32 = .ok (.invokestatic 39, 3) := dk_184 0 39 (dk_at dksX0_isLink_1 8 rfl rfl)
theorem dX0_isLink_35 : decode cX0_isLink 35 = .ok (.ifCond .eq 7, 3) := dk_153 0 7 (dk_at dksX0_isLink_1 11 rfl rfl)
theorem dX0_isLink_38 : decode cX0_isLink 38 = .ok (.iconst 1, 1) := dk_4 (dk_at dksX0_isLink_1 14 rfl rfl)
theorem dX0_isLink_39 : decode cX0_isLink 39 = .ok (.goto 4, 3) := dk_167 0 4 (dk_at dksX0_isLink_1 15 rfl rfl)
theorem dX0_isLink_42 : decode cX0_isLink 42 = .ok (.iconst 0, 1) := dk_3 (dk_at dksX0_isLink_1 18 rfl rfl)
theorem dX0_isLink_43 : decode cX0_isLink 43 = .ok (.ireturn, 1) := dk_172 (dk_at dksX0_isLink_1 19 rfl rfl)
abbrev cX0_isDead : ByteArray := prog_1_method_10_code
def yX0_isDead : MethodName := ⟨RX0, "isDead", "(I)Z"⟩
def dkwX0_isDead_0 : List UInt8 := [27, 3, 42, 180, 0, 16, 180, 0, 69, 182, 0, 73, 4, 100, 184, 0, 39, 172]
abbrev dktX0_isDead_0 : List UInt8 := dkwX0_isDead_0 ++ []
theorem dksX0_isDead_0 : cX0_isDead.data.toList.drop 0 = dktX0_isDead_0 := by decide +kernel
theorem dX0_isDead_0 : decode cX0_isDead 0 = .ok (.iload_n 1, 1) := dk_27 (dk_at dksX0_isDead_0 0 rfl rfl)
theorem dX0_isDead_1 : decode cX0_isDead 1 = .ok (.iconst 0, 1) := dk_3 (dk_at dksX0_isDead_0 1 rfl rfl)
theorem dX0_isDead_2 : decode cX0_isDead 2 = .ok (.aload_n 0, 1) := dk_42 (dk_at dksX0_isDead_0 2 rfl rfl)
theorem dX0_isDead_3 : decode cX0_isDead 3 = .ok (.getfield 16, 3) := dk_180 0 16 (dk_at dksX0_isDead_0 3 rfl rfl)
theorem dX0_isDead_6 : decode cX0_isDead 6 = .ok (.getfield 69, 3) := dk_180 0 69 (dk_at dksX0_isDead_0 6 rfl rfl)
theorem dX0_isDead_9 : decode cX0_isDead 9 = .ok (.invokevirtual 73, 3) := dk_182 0 73 (dk_at dksX0_isDead_0 9 rfl rfl)
theorem dX0_isDead_12 : decode cX0_isDead 12 = .ok (.iconst 1, 1) := dk_4 (dk_at dksX0_isDead_0 12 rfl rfl)
theorem dX0_isDead_13 : decode cX0_isDead 13 = .ok (.isub, 1) := dk_100 (dk_at dksX0_isDead_0 13 rfl rfl)
theorem dX0_isDead_14 : decode cX0_isDead 14 = .ok (.invokestatic 39, 3) := dk_184 0 39 (dk_at dksX0_isDead_0 14 rfl rfl)
theorem dX0_isDead_17 : decode cX0_isDead 17 = .ok (.ireturn, 1) := dk_172 (dk_at dksX0_isDead_0 17 rfl rfl)
abbrev cX0_says : ByteArray := prog_1_method_24_code
def yX0_says : MethodName := ⟨RX0, "says", "(II)I"⟩
def dkwX0_says_6 : List UInt8 := [16, 173, 182, 0, 104, 172]
abbrev dktX0_says_6 : List UInt8 := dkwX0_says_6 ++ []
def dkwX0_says_5 : List UInt8 := [167, 0, 20, 45, 192, 0, 184, 182, 0, 186, 167, 0, 10, 45, 192, 0, 189, 182, 0, 191, 172, 58, 4, 42]
abbrev dktX0_says_5 : List UInt8 := dkwX0_says_5 ++ dktX0_says_6
def dkwX0_says_4 : List UInt8 := [182, 0, 173, 167, 0, 40, 45, 192, 0, 176, 182, 0, 178, 167, 0, 30, 45, 192, 0, 181, 182, 0, 183]
abbrev dktX0_says_4 : List UInt8 := dkwX0_says_4 ++ dktX0_says_5
def dkwX0_says_3 : List UInt8 := [45, 192, 0, 2, 180, 0, 163, 167, 0, 60, 45, 192, 0, 166, 180, 0, 168, 167, 0, 50, 45, 192, 0, 171]
abbrev dktX0_says_3 : List UInt8 := dkwX0_says_3 ++ dktX0_says_4
def dkwX0_says_2 : List UInt8 := [170, 0, 0, 0, 0, 98, 0, 0, 0, 0, 0, 0, 0, 5, 0, 0, 0, 38, 0, 0, 0, 48, 0, 0, 0, 58, 0, 0, 0, 68, 0, 0, 0, 78, 0, 0, 0, 88]
abbrev dktX0_says_2 : List UInt8 := dkwX0_says_2 ++ dktX0_says_3
def dkwX0_says_1 : List UInt8 := [42, 180, 0, 27, 27, 50, 180, 0, 112, 78, 45, 199, 0, 10, 42, 16, 172, 182, 0, 104, 172, 28]
abbrev dktX0_says_1 : List UInt8 := dkwX0_says_1 ++ dktX0_says_2
def dkwX0_says_0 : List UInt8 := [27, 184, 0, 101, 153, 0, 13, 28, 3, 16, 6, 184, 0, 39, 154, 0, 10, 42, 16, 174, 182, 0, 104, 172]
abbrev dktX0_says_0 : List UInt8 := dkwX0_says_0 ++ dktX0_says_1
theorem dksX0_says_0 : cX0_says.data.toList.drop 0 = dktX0_says_0 := by decide +kernel
theorem dksX0_says_1 : cX0_says.data.toList.drop 24 = dktX0_says_1 := dk_seg dksX0_says_0 24 rfl rfl
theorem dksX0_says_2 : cX0_says.data.toList.drop 46 = dktX0_says_2 := dk_seg dksX0_says_1 22 rfl rfl
theorem dksX0_says_3 : cX0_says.data.toList.drop 84 = dktX0_says_3 := dk_seg dksX0_says_2 38 rfl rfl
theorem dksX0_says_4 : cX0_says.data.toList.drop 108 = dktX0_says_4 := dk_seg dksX0_says_3 24 rfl rfl
theorem dksX0_says_5 : cX0_says.data.toList.drop 131 = dktX0_says_5 := dk_seg dksX0_says_4 23 rfl rfl
theorem dksX0_says_6 : cX0_says.data.toList.drop 155 = dktX0_says_6 := dk_seg dksX0_says_5 24 rfl rfl
theorem dX0_says_0 : decode cX0_says 0 = .ok (.iload_n 1, 1) := dk_27 (dk_at dksX0_says_0 0 rfl rfl)
theorem dX0_says_1 : decode cX0_says 1 = .ok (.invokestatic 101, 3) := dk_184 0 101 (dk_at dksX0_says_0 1 rfl rfl)
theorem dX0_says_4 : decode cX0_says 4 = .ok (.ifCond .eq 13, 3) := dk_153 0 13 (dk_at dksX0_says_0 4 rfl rfl)
theorem dX0_says_7 : decode cX0_says 7 = .ok (.iload_n 2, 1) := dk_28 (dk_at dksX0_says_0 7 rfl rfl)
theorem dX0_says_8 : decode cX0_says 8 = .ok (.iconst 0, 1) := dk_3 (dk_at dksX0_says_0 8 rfl rfl)
theorem dX0_says_9 : decode cX0_says 9 = .ok (.bipush 6, 2) := dk_16 6 (dk_at dksX0_says_0 9 rfl rfl)
theorem dX0_says_11 : decode cX0_says 11 = .ok (.invokestatic 39, 3) := dk_184 0 39 (dk_at dksX0_says_0 11 rfl rfl)
theorem dX0_says_14 : decode cX0_says 14 = .ok (.ifCond .ne 10, 3) := dk_154 0 10 (dk_at dksX0_says_0 14 rfl rfl)
theorem dX0_says_17 : decode cX0_says 17 = .ok (.aload_n 0, 1) := dk_42 (dk_at dksX0_says_0 17 rfl rfl)
theorem dX0_says_18 : decode cX0_says 18 = .ok (.bipush (-82), 2) := dk_16 174 (dk_at dksX0_says_0 18 rfl rfl)
theorem dX0_says_20 : decode cX0_says 20 = .ok (.invokevirtual 104, 3) := dk_182 0 104 (dk_at dksX0_says_0 20 rfl rfl)
theorem dX0_says_23 : decode cX0_says 23 = .ok (.ireturn, 1) := dk_172 (dk_at dksX0_says_0 23 rfl rfl)
theorem dX0_says_24 : decode cX0_says 24 = .ok (.aload_n 0, 1) := dk_42 (dk_at dksX0_says_1 0 rfl rfl)
theorem dX0_says_25 : decode cX0_says 25 = .ok (.getfield 27, 3) := dk_180 0 27 (dk_at dksX0_says_1 1 rfl rfl)
theorem dX0_says_28 : decode cX0_says 28 = .ok (.iload_n 1, 1) := dk_27 (dk_at dksX0_says_1 4 rfl rfl)
theorem dX0_says_29 : decode cX0_says 29 = .ok (.aaload, 1) := dk_50 (dk_at dksX0_says_1 5 rfl rfl)
theorem dX0_says_30 : decode cX0_says 30 = .ok (.getfield 112, 3) := dk_180 0 112 (dk_at dksX0_says_1 6 rfl rfl)
theorem dX0_says_33 : decode cX0_says 33 = .ok (.astore_n 3, 1) := dk_78 (dk_at dksX0_says_1 9 rfl rfl)
theorem dX0_says_34 : decode cX0_says 34 = .ok (.aload_n 3, 1) := dk_45 (dk_at dksX0_says_1 10 rfl rfl)
theorem dX0_says_35 : decode cX0_says 35 = .ok (.ifnonnull 10, 3) := dk_199 0 10 (dk_at dksX0_says_1 11 rfl rfl)
theorem dX0_says_38 : decode cX0_says 38 = .ok (.aload_n 0, 1) := dk_42 (dk_at dksX0_says_1 14 rfl rfl)
theorem dX0_says_39 : decode cX0_says 39 = .ok (.bipush (-84), 2) := dk_16 172 (dk_at dksX0_says_1 15 rfl rfl)
theorem dX0_says_41 : decode cX0_says 41 = .ok (.invokevirtual 104, 3) := dk_182 0 104 (dk_at dksX0_says_1 17 rfl rfl)
theorem dX0_says_44 : decode cX0_says 44 = .ok (.ireturn, 1) := dk_172 (dk_at dksX0_says_1 20 rfl rfl)
theorem dX0_says_45 : decode cX0_says 45 = .ok (.iload_n 2, 1) := dk_28 (dk_at dksX0_says_1 21 rfl rfl)
theorem dX0_says_46 : decode cX0_says 46 = .ok (.tableswitch 98 0 5 #[38, 48, 58, 68, 78, 88], 38) := by decide +kernel
theorem dX0_says_84 : decode cX0_says 84 = .ok (.aload_n 3, 1) := dk_45 (dk_at dksX0_says_3 0 rfl rfl)
theorem dX0_says_85 : decode cX0_says 85 = .ok (.checkcast 2, 3) := dk_192 0 2 (dk_at dksX0_says_3 1 rfl rfl)
theorem dX0_says_88 : decode cX0_says 88 = .ok (.getfield 163, 3) := dk_180 0 163 (dk_at dksX0_says_3 4 rfl rfl)
theorem dX0_says_91 : decode cX0_says 91 = .ok (.goto 60, 3) := dk_167 0 60 (dk_at dksX0_says_3 7 rfl rfl)
theorem dX0_says_94 : decode cX0_says 94 = .ok (.aload_n 3, 1) := dk_45 (dk_at dksX0_says_3 10 rfl rfl)
theorem dX0_says_95 : decode cX0_says 95 = .ok (.checkcast 166, 3) := dk_192 0 166 (dk_at dksX0_says_3 11 rfl rfl)
theorem dX0_says_98 : decode cX0_says 98 = .ok (.getfield 168, 3) := dk_180 0 168 (dk_at dksX0_says_3 14 rfl rfl)
theorem dX0_says_101 : decode cX0_says 101 = .ok (.goto 50, 3) := dk_167 0 50 (dk_at dksX0_says_3 17 rfl rfl)
theorem dX0_says_104 : decode cX0_says 104 = .ok (.aload_n 3, 1) := dk_45 (dk_at dksX0_says_3 20 rfl rfl)
theorem dX0_says_105 : decode cX0_says 105 = .ok (.checkcast 171, 3) := dk_192 0 171 (dk_at dksX0_says_3 21 rfl rfl)
theorem dX0_says_108 : decode cX0_says 108 = .ok (.invokevirtual 173, 3) := dk_182 0 173 (dk_at dksX0_says_4 0 rfl rfl)
theorem dX0_says_111 : decode cX0_says 111 = .ok (.goto 40, 3) := dk_167 0 40 (dk_at dksX0_says_4 3 rfl rfl)
theorem dX0_says_114 : decode cX0_says 114 = .ok (.aload_n 3, 1) := dk_45 (dk_at dksX0_says_4 6 rfl rfl)
theorem dX0_says_115 : decode cX0_says 115 = .ok (.checkcast 176, 3) := dk_192 0 176 (dk_at dksX0_says_4 7 rfl rfl)
theorem dX0_says_118 : decode cX0_says 118 = .ok (.invokevirtual 178, 3) := dk_182 0 178 (dk_at dksX0_says_4 10 rfl rfl)
theorem dX0_says_121 : decode cX0_says 121 = .ok (.goto 30, 3) := dk_167 0 30 (dk_at dksX0_says_4 13 rfl rfl)
theorem dX0_says_124 : decode cX0_says 124 = .ok (.aload_n 3, 1) := dk_45 (dk_at dksX0_says_4 16 rfl rfl)
theorem dX0_says_125 : decode cX0_says 125 = .ok (.checkcast 181, 3) := dk_192 0 181 (dk_at dksX0_says_4 17 rfl rfl)
theorem dX0_says_128 : decode cX0_says 128 = .ok (.invokevirtual 183, 3) := dk_182 0 183 (dk_at dksX0_says_4 20 rfl rfl)
theorem dX0_says_131 : decode cX0_says 131 = .ok (.goto 20, 3) := dk_167 0 20 (dk_at dksX0_says_5 0 rfl rfl)
theorem dX0_says_134 : decode cX0_says 134 = .ok (.aload_n 3, 1) := dk_45 (dk_at dksX0_says_5 3 rfl rfl)
theorem dX0_says_135 : decode cX0_says 135 = .ok (.checkcast 184, 3) := dk_192 0 184 (dk_at dksX0_says_5 4 rfl rfl)
theorem dX0_says_138 : decode cX0_says 138 = .ok (.invokevirtual 186, 3) := dk_182 0 186 (dk_at dksX0_says_5 7 rfl rfl)
theorem dX0_says_141 : decode cX0_says 141 = .ok (.goto 10, 3) := dk_167 0 10 (dk_at dksX0_says_5 10 rfl rfl)
theorem dX0_says_144 : decode cX0_says 144 = .ok (.aload_n 3, 1) := dk_45 (dk_at dksX0_says_5 13 rfl rfl)
theorem dX0_says_145 : decode cX0_says 145 = .ok (.checkcast 189, 3) := dk_192 0 189 (dk_at dksX0_says_5 14 rfl rfl)
theorem dX0_says_148 : decode cX0_says 148 = .ok (.invokevirtual 191, 3) := dk_182 0 191 (dk_at dksX0_says_5 17 rfl rfl)
theorem dX0_says_151 : decode cX0_says 151 = .ok (.ireturn, 1) := dk_172 (dk_at dksX0_says_5 20 rfl rfl)
theorem dX0_says_152 : decode cX0_says 152 = .ok (.astore 4, 2) := dk_58 4 (dk_at dksX0_says_5 21 rfl rfl)
theorem dX0_says_154 : decode cX0_says 154 = .ok (.aload_n 0, 1) := dk_42 (dk_at dksX0_says_5 23 rfl rfl)
theorem dX0_says_155 : decode cX0_says 155 = .ok (.bipush (-83), 2) := dk_16 173 (dk_at dksX0_says_6 0 rfl rfl)
theorem dX0_says_157 : decode cX0_says 157 = .ok (.invokevirtual 104, 3) := dk_182 0 104 (dk_at dksX0_says_6 2 rfl rfl)
theorem dX0_says_160 : decode cX0_says 160 = .ok (.ireturn, 1) := dk_172 (dk_at dksX0_says_6 5 rfl rfl)
abbrev cX0_depthOf : ByteArray := prog_1_method_3_code
def yX0_depthOf : MethodName := ⟨RX0, "depthOf", "(LCreditBroker$Cause;)I"⟩
def dkwX0_depthOf_0 : List UInt8 := [42, 199, 0, 7, 3, 167, 0, 7, 42, 182, 0, 1, 172]
abbrev dktX0_depthOf_0 : List UInt8 := dkwX0_depthOf_0 ++ []
theorem dksX0_depthOf_0 : cX0_depthOf.data.toList.drop 0 = dktX0_depthOf_0 := by decide +kernel
theorem dX0_depthOf_0 : decode cX0_depthOf 0 = .ok (.aload_n 0, 1) := dk_42 (dk_at dksX0_depthOf_0 0 rfl rfl)
theorem dX0_depthOf_1 : decode cX0_depthOf 1 = .ok (.ifnonnull 7, 3) := dk_199 0 7 (dk_at dksX0_depthOf_0 1 rfl rfl)
theorem dX0_depthOf_4 : decode cX0_depthOf 4 = .ok (.iconst 0, 1) := dk_3 (dk_at dksX0_depthOf_0 4 rfl rfl)
theorem dX0_depthOf_5 : decode cX0_depthOf 5 = .ok (.goto 7, 3) := dk_167 0 7 (dk_at dksX0_depthOf_0 5 rfl rfl)
theorem dX0_depthOf_8 : decode cX0_depthOf 8 = .ok (.aload_n 0, 1) := dk_42 (dk_at dksX0_depthOf_0 8 rfl rfl)
theorem dX0_depthOf_9 : decode cX0_depthOf 9 = .ok (.invokevirtual 1, 3) := dk_182 0 1 (dk_at dksX0_depthOf_0 9 rfl rfl)
theorem dX0_depthOf_12 : decode cX0_depthOf 12 = .ok (.ireturn, 1) := dk_172 (dk_at dksX0_depthOf_0 12 rfl rfl)
abbrev cX0_feed : ByteArray := prog_1_method_25_code
def yX0_feed : MethodName := ⟨RX0, "feed", "(I)I"⟩
def dkwX0_feed_2 : List UInt8 := [89, 180, 0, 196, 4, 96, 181, 0, 196, 42, 180, 0, 196, 172]
abbrev dktX0_feed_2 : List UInt8 := dkwX0_feed_2 ++ []
def dkwX0_feed_1 : List UInt8 := [17, 0, 250, 160, 0, 10, 42, 16, 170, 182, 0, 104, 172, 42, 180, 0, 31, 42, 180, 0, 196, 27, 79, 42]
abbrev dktX0_feed_1 : List UInt8 := dkwX0_feed_1 ++ dktX0_feed_2
def dkwX0_feed_0 : List UInt8 := [27, 3, 17, 0, 255, 184, 0, 39, 154, 0, 10, 42, 16, 174, 182, 0, 104, 172, 42, 180, 0, 196]
abbrev dktX0_feed_0 : List UInt8 := dkwX0_feed_0 ++ dktX0_feed_1
theorem dksX0_feed_0 : cX0_feed.data.toList.drop 0 = dktX0_feed_0 := by decide +kernel
theorem dksX0_feed_1 : cX0_feed.data.toList.drop 22 = dktX0_feed_1 := dk_seg dksX0_feed_0 22 rfl rfl
theorem dksX0_feed_2 : cX0_feed.data.toList.drop 46 = dktX0_feed_2 := dk_seg dksX0_feed_1 24 rfl rfl
theorem dX0_feed_0 : decode cX0_feed 0 = .ok (.iload_n 1, 1) := dk_27 (dk_at dksX0_feed_0 0 rfl rfl)
theorem dX0_feed_1 : decode cX0_feed 1 = .ok (.iconst 0, 1) := dk_3 (dk_at dksX0_feed_0 1 rfl rfl)
theorem dX0_feed_2 : decode cX0_feed 2 = .ok (.sipush 255, 3) := dk_17 0 255 (dk_at dksX0_feed_0 2 rfl rfl)
theorem dX0_feed_5 : decode cX0_feed 5 = .ok (.invokestatic 39, 3) := dk_184 0 39 (dk_at dksX0_feed_0 5 rfl rfl)
theorem dX0_feed_8 : decode cX0_feed 8 = .ok (.ifCond .ne 10, 3) := dk_154 0 10 (dk_at dksX0_feed_0 8 rfl rfl)
theorem dX0_feed_11 : decode cX0_feed 11 = .ok (.aload_n 0, 1) := dk_42 (dk_at dksX0_feed_0 11 rfl rfl)
theorem dX0_feed_12 : decode cX0_feed 12 = .ok (.bipush (-82), 2) := dk_16 174 (dk_at dksX0_feed_0 12 rfl rfl)
theorem dX0_feed_14 : decode cX0_feed 14 = .ok (.invokevirtual 104, 3) := dk_182 0 104 (dk_at dksX0_feed_0 14 rfl rfl)
theorem dX0_feed_17 : decode cX0_feed 17 = .ok (.ireturn, 1) := dk_172 (dk_at dksX0_feed_0 17 rfl rfl)
theorem dX0_feed_18 : decode cX0_feed 18 = .ok (.aload_n 0, 1) := dk_42 (dk_at dksX0_feed_0 18 rfl rfl)
theorem dX0_feed_19 : decode cX0_feed 19 = .ok (.getfield 196, 3) := dk_180 0 196 (dk_at dksX0_feed_0 19 rfl rfl)
theorem dX0_feed_22 : decode cX0_feed 22 = .ok (.sipush 250, 3) := dk_17 0 250 (dk_at dksX0_feed_1 0 rfl rfl)
theorem dX0_feed_25 : decode cX0_feed 25 = .ok (.if_icmp .ne 10, 3) := dk_160 0 10 (dk_at dksX0_feed_1 3 rfl rfl)
theorem dX0_feed_28 : decode cX0_feed 28 = .ok (.aload_n 0, 1) := dk_42 (dk_at dksX0_feed_1 6 rfl rfl)
theorem dX0_feed_29 : decode cX0_feed 29 = .ok (.bipush (-86), 2) := dk_16 170 (dk_at dksX0_feed_1 7 rfl rfl)
theorem dX0_feed_31 : decode cX0_feed 31 = .ok (.invokevirtual 104, 3) := dk_182 0 104 (dk_at dksX0_feed_1 9 rfl rfl)
theorem dX0_feed_34 : decode cX0_feed 34 = .ok (.ireturn, 1) := dk_172 (dk_at dksX0_feed_1 12 rfl rfl)
theorem dX0_feed_35 : decode cX0_feed 35 = .ok (.aload_n 0, 1) := dk_42 (dk_at dksX0_feed_1 13 rfl rfl)
theorem dX0_feed_36 : decode cX0_feed 36 = .ok (.getfield 31, 3) := dk_180 0 31 (dk_at dksX0_feed_1 14 rfl rfl)
theorem dX0_feed_39 : decode cX0_feed 39 = .ok (.aload_n 0, 1) := dk_42 (dk_at dksX0_feed_1 17 rfl rfl)
theorem dX0_feed_40 : decode cX0_feed 40 = .ok (.getfield 196, 3) := dk_180 0 196 (dk_at dksX0_feed_1 18 rfl rfl)
theorem dX0_feed_43 : decode cX0_feed 43 = .ok (.iload_n 1, 1) := dk_27 (dk_at dksX0_feed_1 21 rfl rfl)
theorem dX0_feed_44 : decode cX0_feed 44 = .ok (.iastore, 1) := dk_79 (dk_at dksX0_feed_1 22 rfl rfl)
theorem dX0_feed_45 : decode cX0_feed 45 = .ok (.aload_n 0, 1) := dk_42 (dk_at dksX0_feed_1 23 rfl rfl)
theorem dX0_feed_46 : decode cX0_feed 46 = .ok (.dup, 1) := dk_89 (dk_at dksX0_feed_2 0 rfl rfl)
theorem dX0_feed_47 : decode cX0_feed 47 = .ok (.getfield 196, 3) := dk_180 0 196 (dk_at dksX0_feed_2 1 rfl rfl)
theorem dX0_feed_50 : decode cX0_feed 50 = .ok (.iconst 1, 1) := dk_4 (dk_at dksX0_feed_2 4 rfl rfl)
theorem dX0_feed_51 : decode cX0_feed 51 = .ok (.iadd, 1) := dk_96 (dk_at dksX0_feed_2 5 rfl rfl)
theorem dX0_feed_52 : decode cX0_feed 52 = .ok (.putfield 196, 3) := dk_181 0 196 (dk_at dksX0_feed_2 6 rfl rfl)
theorem dX0_feed_55 : decode cX0_feed 55 = .ok (.aload_n 0, 1) := dk_42 (dk_at dksX0_feed_2 9 rfl rfl)
theorem dX0_feed_56 : decode cX0_feed 56 = .ok (.getfield 196, 3) := dk_180 0 196 (dk_at dksX0_feed_2 10 rfl rfl)
theorem dX0_feed_59 : decode cX0_feed 59 = .ok (.ireturn, 1) := dk_172 (dk_at dksX0_feed_2 13 rfl rfl)
abbrev cX0_wipe : ByteArray := prog_1_method_26_code
def yX0_wipe : MethodName := ⟨RX0, "wipe", "()I"⟩
def dkwX0_wipe_0 : List UInt8 := [42, 180, 0, 196, 60, 42, 3, 181, 0, 196, 27, 172]
abbrev dktX0_wipe_0 : List UInt8 := dkwX0_wipe_0 ++ []
theorem dksX0_wipe_0 : cX0_wipe.data.toList.drop 0 = dktX0_wipe_0 := by decide +kernel
theorem dX0_wipe_0 : decode cX0_wipe 0 = .ok (.aload_n 0, 1) := dk_42 (dk_at dksX0_wipe_0 0 rfl rfl)
theorem dX0_wipe_1 : decode cX0_wipe 1 = .ok (.getfield 196, 3) := dk_180 0 196 (dk_at dksX0_wipe_0 1 rfl rfl)
theorem dX0_wipe_4 : decode cX0_wipe 4 = .ok (.istore_n 1, 1) := dk_60 (dk_at dksX0_wipe_0 4 rfl rfl)
theorem dX0_wipe_5 : decode cX0_wipe 5 = .ok (.aload_n 0, 1) := dk_42 (dk_at dksX0_wipe_0 5 rfl rfl)
theorem dX0_wipe_6 : decode cX0_wipe 6 = .ok (.iconst 0, 1) := dk_3 (dk_at dksX0_wipe_0 6 rfl rfl)
theorem dX0_wipe_7 : decode cX0_wipe 7 = .ok (.putfield 196, 3) := dk_181 0 196 (dk_at dksX0_wipe_0 7 rfl rfl)
theorem dX0_wipe_10 : decode cX0_wipe 10 = .ok (.iload_n 1, 1) := dk_27 (dk_at dksX0_wipe_0 10 rfl rfl)
theorem dX0_wipe_11 : decode cX0_wipe 11 = .ok (.ireturn, 1) := dk_172 (dk_at dksX0_wipe_0 11 rfl rfl)
abbrev cX0_topic : ByteArray := prog_1_method_27_code
def yX0_topic : MethodName := ⟨RX0, "topic", "()I"⟩
def dkwX0_topic_2 : List UInt8 := [17, 254, 212, 43, 180, 0, 218, 100, 61, 42, 3, 181, 0, 196, 28, 172, 78, 42, 3, 181, 0, 196, 45, 191]
abbrev dktX0_topic_2 : List UInt8 := dkwX0_topic_2 ++ []
def dkwX0_topic_1 : List UInt8 := [180, 0, 207, 182, 0, 211, 60, 42, 3, 181, 0, 196, 27, 172, 76, 42, 16, 174, 182, 0, 104, 87]
abbrev dktX0_topic_1 : List UInt8 := dkwX0_topic_1 ++ dktX0_topic_2
def dkwX0_topic_0 : List UInt8 := [42, 180, 0, 16, 187, 0, 198, 89, 42, 183, 0, 200, 3, 182, 0, 203, 181, 0, 207, 42, 180, 0, 16]
abbrev dktX0_topic_0 : List UInt8 := dkwX0_topic_0 ++ dktX0_topic_1
theorem dksX0_topic_0 : cX0_topic.data.toList.drop 0 = dktX0_topic_0 := by decide +kernel
theorem dksX0_topic_1 : cX0_topic.data.toList.drop 23 = dktX0_topic_1 := dk_seg dksX0_topic_0 23 rfl rfl
theorem dksX0_topic_2 : cX0_topic.data.toList.drop 45 = dktX0_topic_2 := dk_seg dksX0_topic_1 22 rfl rfl
theorem dX0_topic_0 : decode cX0_topic 0 = .ok (.aload_n 0, 1) := dk_42 (dk_at dksX0_topic_0 0 rfl rfl)
theorem dX0_topic_1 : decode cX0_topic 1 = .ok (.getfield 16, 3) := dk_180 0 16 (dk_at dksX0_topic_0 1 rfl rfl)
theorem dX0_topic_4 : decode cX0_topic 4 = .ok (.new 198, 3) := dk_187 0 198 (dk_at dksX0_topic_0 4 rfl rfl)
theorem dX0_topic_7 : decode cX0_topic 7 = .ok (.dup, 1) := dk_89 (dk_at dksX0_topic_0 7 rfl rfl)
theorem dX0_topic_8 : decode cX0_topic 8 = .ok (.aload_n 0, 1) := dk_42 (dk_at dksX0_topic_0 8 rfl rfl)
theorem dX0_topic_9 : decode cX0_topic 9 = .ok (.invokespecial 200, 3) := dk_183 0 200 (dk_at dksX0_topic_0 9 rfl rfl)
theorem dX0_topic_12 : decode cX0_topic 12 = .ok (.iconst 0, 1) := dk_3 (dk_at dksX0_topic_0 12 rfl rfl)
theorem dX0_topic_13 : decode cX0_topic 13 = .ok (.invokevirtual 203, 3) := dk_182 0 203 (dk_at dksX0_topic_0 13 rfl rfl)
theorem dX0_topic_16 : decode cX0_topic 16 = .ok (.putfield 207, 3) := dk_181 0 207 (dk_at dksX0_topic_0 16 rfl rfl)
theorem dX0_topic_19 : decode cX0_topic 19 = .ok (.aload_n 0, 1) := dk_42 (dk_at dksX0_topic_0 19 rfl rfl)
theorem dX0_topic_20 : decode cX0_topic 20 = .ok (.getfield 16, 3) := dk_180 0 16 (dk_at dksX0_topic_0 20 rfl rfl)
theorem dX0_topic_23 : decode cX0_topic 23 = .ok (.getfield 207, 3) := dk_180 0 207 (dk_at dksX0_topic_1 0 rfl rfl)
theorem dX0_topic_26 : decode cX0_topic 26 = .ok (.invokevirtual 211, 3) := dk_182 0 211 (dk_at dksX0_topic_1 3 rfl rfl)
theorem dX0_topic_29 : decode cX0_topic 29 = .ok (.istore_n 1, 1) := dk_60 (dk_at dksX0_topic_1 6 rfl rfl)
theorem dX0_topic_30 : decode cX0_topic 30 = .ok (.aload_n 0, 1) := dk_42 (dk_at dksX0_topic_1 7 rfl rfl)
theorem dX0_topic_31 : decode cX0_topic 31 = .ok (.iconst 0, 1) := dk_3 (dk_at dksX0_topic_1 8 rfl rfl)
theorem dX0_topic_32 : decode cX0_topic 32 = .ok (.putfield 196, 3) := dk_181 0 196 (dk_at dksX0_topic_1 9 rfl rfl)
theorem dX0_topic_35 : decode cX0_topic 35 = .ok (.iload_n 1, 1) := dk_27 (dk_at dksX0_topic_1 12 rfl rfl)
theorem dX0_topic_36 : decode cX0_topic 36 = .ok (.ireturn, 1) := dk_172 (dk_at dksX0_topic_1 13 rfl rfl)
theorem dX0_topic_37 : decode cX0_topic 37 = .ok (.astore_n 1, 1) := dk_76 (dk_at dksX0_topic_1 14 rfl rfl)
theorem dX0_topic_38 : decode cX0_topic 38 = .ok (.aload_n 0, 1) := dk_42 (dk_at dksX0_topic_1 15 rfl rfl)
theorem dX0_topic_39 : decode cX0_topic 39 = .ok (.bipush (-82), 2) := dk_16 174 (dk_at dksX0_topic_1 16 rfl rfl)
theorem dX0_topic_41 : decode cX0_topic 41 = .ok (.invokevirtual 104, 3) := dk_182 0 104 (dk_at dksX0_topic_1 18 rfl rfl)
theorem dX0_topic_44 : decode cX0_topic 44 = .ok (.pop, 1) := dk_87 (dk_at dksX0_topic_1 21 rfl rfl)
theorem dX0_topic_45 : decode cX0_topic 45 = .ok (.sipush (-300), 3) := dk_17 254 212 (dk_at dksX0_topic_2 0 rfl rfl)
theorem dX0_topic_48 : decode cX0_topic 48 = .ok (.aload_n 1, 1) := dk_43 (dk_at dksX0_topic_2 3 rfl rfl)
theorem dX0_topic_49 : decode cX0_topic 49 = .ok (.getfield 218, 3) := dk_180 0 218 (dk_at dksX0_topic_2 4 rfl rfl)
theorem dX0_topic_52 : decode cX0_topic 52 = .ok (.isub, 1) := dk_100 (dk_at dksX0_topic_2 7 rfl rfl)
theorem dX0_topic_53 : decode cX0_topic 53 = .ok (.istore_n 2, 1) := dk_61 (dk_at dksX0_topic_2 8 rfl rfl)
theorem dX0_topic_54 : decode cX0_topic 54 = .ok (.aload_n 0, 1) := dk_42 (dk_at dksX0_topic_2 9 rfl rfl)
theorem dX0_topic_55 : decode cX0_topic 55 = .ok (.iconst 0, 1) := dk_3 (dk_at dksX0_topic_2 10 rfl rfl)
theorem dX0_topic_56 : decode cX0_topic 56 = .ok (.putfield 196, 3) := dk_181 0 196 (dk_at dksX0_topic_2 11 rfl rfl)
theorem dX0_topic_59 : decode cX0_topic 59 = .ok (.iload_n 2, 1) := dk_28 (dk_at dksX0_topic_2 14 rfl rfl)
theorem dX0_topic_60 : decode cX0_topic 60 = .ok (.ireturn, 1) := dk_172 (dk_at dksX0_topic_2 15 rfl rfl)
theorem dX0_topic_61 : decode cX0_topic 61 = .ok (.astore_n 3, 1) := dk_78 (dk_at dksX0_topic_2 16 rfl rfl)
theorem dX0_topic_62 : decode cX0_topic 62 = .ok (.aload_n 0, 1) := dk_42 (dk_at dksX0_topic_2 17 rfl rfl)
theorem dX0_topic_63 : decode cX0_topic 63 = .ok (.iconst 0, 1) := dk_3 (dk_at dksX0_topic_2 18 rfl rfl)
theorem dX0_topic_64 : decode cX0_topic 64 = .ok (.putfield 196, 3) := dk_181 0 196 (dk_at dksX0_topic_2 19 rfl rfl)
theorem dX0_topic_67 : decode cX0_topic 67 = .ok (.aload_n 3, 1) := dk_45 (dk_at dksX0_topic_2 22 rfl rfl)
theorem dX0_topic_68 : decode cX0_topic 68 = .ok (.athrow, 1) := dk_191 (dk_at dksX0_topic_2 23 rfl rfl)
abbrev cX0_queue : ByteArray := prog_1_method_29_code
def yX0_queue : MethodName := ⟨RX0, "queue", "(IIII)I"⟩
def dkwX0_queue_3 : List UInt8 := [6, 21, 4, 79, 182, 0, 232, 167, 0, 9, 42, 16, 174, 182, 0, 104, 172]
abbrev dktX0_queue_3 : List UInt8 := dkwX0_queue_3 ++ []
def dkwX0_queue_2 : List UInt8 := [54, 5, 21, 5, 153, 0, 30, 42, 7, 188, 10, 89, 3, 27, 79, 89, 4, 28, 79, 89, 5, 29, 79, 89]
abbrev dktX0_queue_2 : List UInt8 := dkwX0_queue_2 ++ dktX0_queue_3
def dkwX0_queue_1 : List UInt8 := [29, 4, 16, 99, 184, 0, 39, 84, 89, 6, 21, 4, 3, 17, 3, 231, 184, 0, 39, 84, 184, 0, 228]
abbrev dktX0_queue_1 : List UInt8 := dkwX0_queue_1 ++ dktX0_queue_2
def dkwX0_queue_0 : List UInt8 := [7, 188, 4, 89, 3, 27, 4, 16, 20, 184, 0, 39, 84, 89, 4, 28, 4, 8, 184, 0, 39, 84, 89, 5]
abbrev dktX0_queue_0 : List UInt8 := dkwX0_queue_0 ++ dktX0_queue_1
theorem dksX0_queue_0 : cX0_queue.data.toList.drop 0 = dktX0_queue_0 := by decide +kernel
theorem dksX0_queue_1 : cX0_queue.data.toList.drop 24 = dktX0_queue_1 := dk_seg dksX0_queue_0 24 rfl rfl
theorem dksX0_queue_2 : cX0_queue.data.toList.drop 47 = dktX0_queue_2 := dk_seg dksX0_queue_1 23 rfl rfl
theorem dksX0_queue_3 : cX0_queue.data.toList.drop 71 = dktX0_queue_3 := dk_seg dksX0_queue_2 24 rfl rfl
theorem dX0_queue_0 : decode cX0_queue 0 = .ok (.iconst 4, 1) := dk_7 (dk_at dksX0_queue_0 0 rfl rfl)
theorem dX0_queue_1 : decode cX0_queue 1 = .ok (.newarray .boolean, 2) := dk_188_4 (dk_at dksX0_queue_0 1 rfl rfl)
theorem dX0_queue_3 : decode cX0_queue 3 = .ok (.dup, 1) := dk_89 (dk_at dksX0_queue_0 3 rfl rfl)
theorem dX0_queue_4 : decode cX0_queue 4 = .ok (.iconst 0, 1) := dk_3 (dk_at dksX0_queue_0 4 rfl rfl)
theorem dX0_queue_5 : decode cX0_queue 5 = .ok (.iload_n 1, 1) := dk_27 (dk_at dksX0_queue_0 5 rfl rfl)
theorem dX0_queue_6 : decode cX0_queue 6 = .ok (.iconst 1, 1) := dk_4 (dk_at dksX0_queue_0 6 rfl rfl)
theorem dX0_queue_7 : decode cX0_queue 7 = .ok (.bipush 20, 2) := dk_16 20 (dk_at dksX0_queue_0 7 rfl rfl)
theorem dX0_queue_9 : decode cX0_queue 9 = .ok (.invokestatic 39, 3) := dk_184 0 39 (dk_at dksX0_queue_0 9 rfl rfl)
theorem dX0_queue_12 : decode cX0_queue 12 = .ok (.bastore, 1) := dk_84 (dk_at dksX0_queue_0 12 rfl rfl)
theorem dX0_queue_13 : decode cX0_queue 13 = .ok (.dup, 1) := dk_89 (dk_at dksX0_queue_0 13 rfl rfl)
theorem dX0_queue_14 : decode cX0_queue 14 = .ok (.iconst 1, 1) := dk_4 (dk_at dksX0_queue_0 14 rfl rfl)
theorem dX0_queue_15 : decode cX0_queue 15 = .ok (.iload_n 2, 1) := dk_28 (dk_at dksX0_queue_0 15 rfl rfl)
theorem dX0_queue_16 : decode cX0_queue 16 = .ok (.iconst 1, 1) := dk_4 (dk_at dksX0_queue_0 16 rfl rfl)
theorem dX0_queue_17 : decode cX0_queue 17 = .ok (.iconst 5, 1) := dk_8 (dk_at dksX0_queue_0 17 rfl rfl)
theorem dX0_queue_18 : decode cX0_queue 18 = .ok (.invokestatic 39, 3) := dk_184 0 39 (dk_at dksX0_queue_0 18 rfl rfl)
theorem dX0_queue_21 : decode cX0_queue 21 = .ok (.bastore, 1) := dk_84 (dk_at dksX0_queue_0 21 rfl rfl)
theorem dX0_queue_22 : decode cX0_queue 22 = .ok (.dup, 1) := dk_89 (dk_at dksX0_queue_0 22 rfl rfl)
theorem dX0_queue_23 : decode cX0_queue 23 = .ok (.iconst 2, 1) := dk_5 (dk_at dksX0_queue_0 23 rfl rfl)
theorem dX0_queue_24 : decode cX0_queue 24 = .ok (.iload_n 3, 1) := dk_29 (dk_at dksX0_queue_1 0 rfl rfl)
theorem dX0_queue_25 : decode cX0_queue 25 = .ok (.iconst 1, 1) := dk_4 (dk_at dksX0_queue_1 1 rfl rfl)
theorem dX0_queue_26 : decode cX0_queue 26 = .ok (.bipush 99, 2) := dk_16 99 (dk_at dksX0_queue_1 2 rfl rfl)
theorem dX0_queue_28 : decode cX0_queue 28 = .ok (.invokestatic 39, 3) := dk_184 0 39 (dk_at dksX0_queue_1 4 rfl rfl)
theorem dX0_queue_31 : decode cX0_queue 31 = .ok (.bastore, 1) := dk_84 (dk_at dksX0_queue_1 7 rfl rfl)
theorem dX0_queue_32 : decode cX0_queue 32 = .ok (.dup, 1) := dk_89 (dk_at dksX0_queue_1 8 rfl rfl)
theorem dX0_queue_33 : decode cX0_queue 33 = .ok (.iconst 3, 1) := dk_6 (dk_at dksX0_queue_1 9 rfl rfl)
theorem dX0_queue_34 : decode cX0_queue 34 = .ok (.iload 4, 2) := dk_21 4 (dk_at dksX0_queue_1 10 rfl rfl)
theorem dX0_queue_36 : decode cX0_queue 36 = .ok (.iconst 0, 1) := dk_3 (dk_at dksX0_queue_1 12 rfl rfl)
theorem dX0_queue_37 : decode cX0_queue 37 = .ok (.sipush 999, 3) := dk_17 3 231 (dk_at dksX0_queue_1 13 rfl rfl)
theorem dX0_queue_40 : decode cX0_queue 40 = .ok (.invokestatic 39, 3) := dk_184 0 39 (dk_at dksX0_queue_1 16 rfl rfl)
theorem dX0_queue_43 : decode cX0_queue 43 = .ok (.bastore, 1) := dk_84 (dk_at dksX0_queue_1 19 rfl rfl)
theorem dX0_queue_44 : decode cX0_queue 44 = .ok (.invokestatic 228, 3) := dk_184 0 228 (dk_at dksX0_queue_1 20 rfl rfl)
theorem dX0_queue_47 : decode cX0_queue 47 = .ok (.istore 5, 2) := dk_54 5 (dk_at dksX0_queue_2 0 rfl rfl)
theorem dX0_queue_49 : decode cX0_queue 49 = .ok (.iload 5, 2) := dk_21 5 (dk_at dksX0_queue_2 2 rfl rfl)
theorem dX0_queue_51 : decode cX0_queue 51 = .ok (.ifCond .eq 30, 3) := dk_153 0 30 (dk_at dksX0_queue_2 4 rfl rfl)
theorem dX0_queue_54 : decode cX0_queue 54 = .ok (.aload_n 0, 1) := dk_42 (dk_at dksX0_queue_2 7 rfl rfl)
theorem dX0_queue_55 : decode cX0_queue 55 = .ok (.iconst 4, 1) := dk_7 (dk_at dksX0_queue_2 8 rfl rfl)
theorem dX0_queue_56 : decode cX0_queue 56 = .ok (.newarray .int, 2) := dk_188_10 (dk_at dksX0_queue_2 9 rfl rfl)
theorem dX0_queue_58 : decode cX0_queue 58 = .ok (.dup, 1) := dk_89 (dk_at dksX0_queue_2 11 rfl rfl)
theorem dX0_queue_59 : decode cX0_queue 59 = .ok (.iconst 0, 1) := dk_3 (dk_at dksX0_queue_2 12 rfl rfl)
theorem dX0_queue_60 : decode cX0_queue 60 = .ok (.iload_n 1, 1) := dk_27 (dk_at dksX0_queue_2 13 rfl rfl)
theorem dX0_queue_61 : decode cX0_queue 61 = .ok (.iastore, 1) := dk_79 (dk_at dksX0_queue_2 14 rfl rfl)
theorem dX0_queue_62 : decode cX0_queue 62 = .ok (.dup, 1) := dk_89 (dk_at dksX0_queue_2 15 rfl rfl)
theorem dX0_queue_63 : decode cX0_queue 63 = .ok (.iconst 1, 1) := dk_4 (dk_at dksX0_queue_2 16 rfl rfl)
theorem dX0_queue_64 : decode cX0_queue 64 = .ok (.iload_n 2, 1) := dk_28 (dk_at dksX0_queue_2 17 rfl rfl)
theorem dX0_queue_65 : decode cX0_queue 65 = .ok (.iastore, 1) := dk_79 (dk_at dksX0_queue_2 18 rfl rfl)
theorem dX0_queue_66 : decode cX0_queue 66 = .ok (.dup, 1) := dk_89 (dk_at dksX0_queue_2 19 rfl rfl)
theorem dX0_queue_67 : decode cX0_queue 67 = .ok (.iconst 2, 1) := dk_5 (dk_at dksX0_queue_2 20 rfl rfl)
theorem dX0_queue_68 : decode cX0_queue 68 = .ok (.iload_n 3, 1) := dk_29 (dk_at dksX0_queue_2 21 rfl rfl)
theorem dX0_queue_69 : decode cX0_queue 69 = .ok (.iastore, 1) := dk_79 (dk_at dksX0_queue_2 22 rfl rfl)
theorem dX0_queue_70 : decode cX0_queue 70 = .ok (.dup, 1) := dk_89 (dk_at dksX0_queue_2 23 rfl rfl)
theorem dX0_queue_71 : decode cX0_queue 71 = .ok (.iconst 3, 1) := dk_6 (dk_at dksX0_queue_3 0 rfl rfl)
theorem dX0_queue_72 : decode cX0_queue 72 = .ok (.iload 4, 2) := dk_21 4 (dk_at dksX0_queue_3 1 rfl rfl)
theorem dX0_queue_74 : decode cX0_queue 74 = .ok (.iastore, 1) := dk_79 (dk_at dksX0_queue_3 3 rfl rfl)
theorem dX0_queue_75 : decode cX0_queue 75 = .ok (.invokevirtual 232, 3) := dk_182 0 232 (dk_at dksX0_queue_3 4 rfl rfl)
theorem dX0_queue_78 : decode cX0_queue 78 = .ok (.goto 9, 3) := dk_167 0 9 (dk_at dksX0_queue_3 7 rfl rfl)
theorem dX0_queue_81 : decode cX0_queue 81 = .ok (.aload_n 0, 1) := dk_42 (dk_at dksX0_queue_3 10 rfl rfl)
theorem dX0_queue_82 : decode cX0_queue 82 = .ok (.bipush (-82), 2) := dk_16 174 (dk_at dksX0_queue_3 11 rfl rfl)
theorem dX0_queue_84 : decode cX0_queue 84 = .ok (.invokevirtual 104, 3) := dk_182 0 104 (dk_at dksX0_queue_3 13 rfl rfl)
theorem dX0_queue_87 : decode cX0_queue 87 = .ok (.ireturn, 1) := dk_172 (dk_at dksX0_queue_3 16 rfl rfl)
abbrev cX0_are : ByteArray := prog_1_method_2_code
def yX0_are : MethodName := ⟨RX0, "are", "([Z)Z"⟩
def dkwX0_are_1 : List UInt8 := [21, 5, 126, 60, 132, 4, 1, 167, 255, 236, 27, 172]
abbrev dktX0_are_1 : List UInt8 := dkwX0_are_1 ++ []
def dkwX0_are_0 : List UInt8 := [4, 60, 42, 77, 44, 190, 62, 3, 54, 4, 21, 4, 29, 162, 0, 20, 44, 21, 4, 51, 54, 5, 27]
abbrev dktX0_are_0 : List UInt8 := dkwX0_are_0 ++ dktX0_are_1
theorem dksX0_are_0 : cX0_are.data.toList.drop 0 = dktX0_are_0 := by decide +kernel
theorem dksX0_are_1 : cX0_are.data.toList.drop 23 = dktX0_are_1 := dk_seg dksX0_are_0 23 rfl rfl
theorem dX0_are_0 : decode cX0_are 0 = .ok (.iconst 1, 1) := dk_4 (dk_at dksX0_are_0 0 rfl rfl)
theorem dX0_are_1 : decode cX0_are 1 = .ok (.istore_n 1, 1) := dk_60 (dk_at dksX0_are_0 1 rfl rfl)
theorem dX0_are_2 : decode cX0_are 2 = .ok (.aload_n 0, 1) := dk_42 (dk_at dksX0_are_0 2 rfl rfl)
theorem dX0_are_3 : decode cX0_are 3 = .ok (.astore_n 2, 1) := dk_77 (dk_at dksX0_are_0 3 rfl rfl)
theorem dX0_are_4 : decode cX0_are 4 = .ok (.aload_n 2, 1) := dk_44 (dk_at dksX0_are_0 4 rfl rfl)
theorem dX0_are_5 : decode cX0_are 5 = .ok (.arraylength, 1) := dk_190 (dk_at dksX0_are_0 5 rfl rfl)
theorem dX0_are_6 : decode cX0_are 6 = .ok (.istore_n 3, 1) := dk_62 (dk_at dksX0_are_0 6 rfl rfl)
theorem dX0_are_7 : decode cX0_are 7 = .ok (.iconst 0, 1) := dk_3 (dk_at dksX0_are_0 7 rfl rfl)
theorem dX0_are_8 : decode cX0_are 8 = .ok (.istore 4, 2) := dk_54 4 (dk_at dksX0_are_0 8 rfl rfl)
theorem dX0_are_10 : decode cX0_are 10 = .ok (.iload 4, 2) := dk_21 4 (dk_at dksX0_are_0 10 rfl rfl)
theorem dX0_are_12 : decode cX0_are 12 = .ok (.iload_n 3, 1) := dk_29 (dk_at dksX0_are_0 12 rfl rfl)
theorem dX0_are_13 : decode cX0_are 13 = .ok (.if_icmp .ge 20, 3) := dk_162 0 20 (dk_at dksX0_are_0 13 rfl rfl)
theorem dX0_are_16 : decode cX0_are 16 = .ok (.aload_n 2, 1) := dk_44 (dk_at dksX0_are_0 16 rfl rfl)
theorem dX0_are_17 : decode cX0_are 17 = .ok (.iload 4, 2) := dk_21 4 (dk_at dksX0_are_0 17 rfl rfl)
theorem dX0_are_19 : decode cX0_are 19 = .ok (.baload, 1) := dk_51 (dk_at dksX0_are_0 19 rfl rfl)
theorem dX0_are_20 : decode cX0_are 20 = .ok (.istore 5, 2) := dk_54 5 (dk_at dksX0_are_0 20 rfl rfl)
theorem dX0_are_22 : decode cX0_are 22 = .ok (.iload_n 1, 1) := dk_27 (dk_at dksX0_are_0 22 rfl rfl)
theorem dX0_are_23 : decode cX0_are 23 = .ok (.iload 5, 2) := dk_21 5 (dk_at dksX0_are_1 0 rfl rfl)
theorem dX0_are_25 : decode cX0_are 25 = .ok (.iand, 1) := dk_126 (dk_at dksX0_are_1 2 rfl rfl)
theorem dX0_are_26 : decode cX0_are 26 = .ok (.istore_n 1, 1) := dk_60 (dk_at dksX0_are_1 3 rfl rfl)
theorem dX0_are_27 : decode cX0_are 27 = .ok (.iinc 4 1, 3) := dk_132 4 1 (dk_at dksX0_are_1 4 rfl rfl)
theorem dX0_are_30 : decode cX0_are 30 = .ok (.goto (-20), 3) := dk_167 255 236 (dk_at dksX0_are_1 7 rfl rfl)
theorem dX0_are_33 : decode cX0_are 33 = .ok (.iload_n 1, 1) := dk_27 (dk_at dksX0_are_1 10 rfl rfl)
theorem dX0_are_34 : decode cX0_are 34 = .ok (.ireturn, 1) := dk_172 (dk_at dksX0_are_1 11 rfl rfl)
abbrev cX0_queued : ByteArray := prog_1_method_28_code
def yX0_queued : MethodName := ⟨RX0, "queued", "([I)I"⟩
def dkwX0_queued_5 : List UInt8 := [58, 4, 42, 3, 181, 0, 196, 25, 4, 191]
abbrev dktX0_queued_5 : List UInt8 := dkwX0_queued_5 ++ []
def dkwX0_queued_4 : List UInt8 := [77, 42, 16, 174, 182, 0, 104, 87, 17, 254, 212, 44, 180, 0, 218, 100, 62, 42, 3, 181, 0, 196, 29, 172]
abbrev dktX0_queued_4 : List UInt8 := dkwX0_queued_4 ++ dktX0_queued_5
def dkwX0_queued_3 : List UInt8 := [182, 0, 224, 87, 42, 180, 0, 16, 180, 0, 43, 182, 0, 47, 4, 100, 62, 42, 3, 181, 0, 196, 29, 172]
abbrev dktX0_queued_3 : List UInt8 := dkwX0_queued_3 ++ dktX0_queued_4
def dkwX0_queued_2 : List UInt8 := [180, 0, 43, 187, 0, 76, 89, 42, 180, 0, 16, 180, 0, 43, 182, 0, 47, 44, 43, 183, 0, 221]
abbrev dktX0_queued_2 : List UInt8 := dkwX0_queued_2 ++ dktX0_queued_3
def dkwX0_queued_1 : List UInt8 := [16, 8, 160, 0, 17, 42, 16, 170, 182, 0, 104, 62, 42, 3, 181, 0, 196, 29, 172, 42, 180, 0, 16]
abbrev dktX0_queued_1 : List UInt8 := dkwX0_queued_1 ++ dktX0_queued_2
def dkwX0_queued_0 : List UInt8 := [187, 0, 198, 89, 42, 183, 0, 200, 4, 182, 0, 203, 77, 42, 180, 0, 16, 180, 0, 43, 182, 0, 47]
abbrev dktX0_queued_0 : List UInt8 := dkwX0_queued_0 ++ dktX0_queued_1
theorem dksX0_queued_0 : cX0_queued.data.toList.drop 0 = dktX0_queued_0 := by decide +kernel
theorem dksX0_queued_1 : cX0_queued.data.toList.drop 23 = dktX0_queued_1 := dk_seg dksX0_queued_0 23 rfl rfl
theorem dksX0_queued_2 : cX0_queued.data.toList.drop 46 = dktX0_queued_2 := dk_seg dksX0_queued_1 23 rfl rfl
theorem dksX0_queued_3 : cX0_queued.data.toList.drop 68 = dktX0_queued_3 := dk_seg dksX0_queued_2 22 rfl rfl
theorem dksX0_queued_4 : cX0_queued.data.toList.drop 92 = dktX0_queued_4 := dk_seg dksX0_queued_3 24 rfl rfl
theorem dksX0_queued_5 : cX0_queued.data.toList.drop 116 = dktX0_queued_5 := dk_seg dksX0_queued_4 24 rfl rfl
theorem dX0_queued_0 : decode cX0_queued 0 = .ok (.new 198, 3) := dk_187 0 198 (dk_at dksX0_queued_0 0 rfl rfl)
theorem dX0_queued_3 : decode cX0_queued 3 = .ok (.dup, 1) := dk_89 (dk_at dksX0_queued_0 3 rfl rfl)
theorem dX0_queued_4 : decode cX0_queued 4 = .ok (.aload_n 0, 1) := dk_42 (dk_at dksX0_queued_0 4 rfl rfl)
theorem dX0_queued_5 : decode cX0_queued 5 = .ok (.invokespecial 200, 3) := dk_183 0 200 (dk_at dksX0_queued_0 5 rfl rfl)
theorem dX0_queued_8 : decode cX0_queued 8 = .ok (.iconst 1, 1) := dk_4 (dk_at dksX0_queued_0 8 rfl rfl)
theorem dX0_queued_9 : decode cX0_queued 9 = .ok (.invokevirtual 203, 3) := dk_182 0 203 (dk_at dksX0_queued_0 9 rfl rfl)
theorem dX0_queued_12 : decode cX0_queued 12 = .ok (.astore_n 2, 1) := dk_77 (dk_at dksX0_queued_0 12 rfl rfl)
theorem dX0_queued_13 : decode cX0_queued 13 = .ok (.aload_n 0, 1) := dk_42 (dk_at dksX0_queued_0 13 rfl rfl)
theorem dX0_queued_14 : decode cX0_queued 14 = .ok (.getfield 16, 3) := dk_180 0 16 (dk_at dksX0_queued_0 14 rfl rfl)
theorem dX0_queued_17 : decode cX0_queued 17 = .ok (.getfield 43, 3) := dk_180 0 43 (dk_at dksX0_queued_0 17 rfl rfl)
theorem dX0_queued_20 : decode cX0_queued 20 = .ok (.invokevirtual 47, 3) := dk_182 0 47 (dk_at dksX0_queued_0 20 rfl rfl)
theorem dX0_queued_23 : decode cX0_queued 23 = .ok (.bipush 8, 2) := dk_16 8 (dk_at dksX0_queued_1 0 rfl rfl)
theorem dX0_queued_25 : decode cX0_queued 25 = .ok (.if_icmp .ne 17, 3) := dk_160 0 17 (dk_at dksX0_queued_1 2 rfl rfl)
theorem dX0_queued_28 : decode cX0_queued 28 = .ok (.aload_n 0, 1) := dk_42 (dk_at dksX0_queued_1 5 rfl rfl)
theorem dX0_queued_29 : decode cX0_queued 29 = .ok (.bipush (-86), 2) := dk_16 170 (dk_at dksX0_queued_1 6 rfl rfl)
theorem dX0_queued_31 : decode cX0_queued 31 = .ok (.invokevirtual 104, 3) := dk_182 0 104 (dk_at dksX0_queued_1 8 rfl rfl)
theorem dX0_queued_34 : decode cX0_queued 34 = .ok (.istore_n 3, 1) := dk_62 (dk_at dksX0_queued_1 11 rfl rfl)
theorem dX0_queued_35 : decode cX0_queued 35 = .ok (.aload_n 0, 1) := dk_42 (dk_at dksX0_queued_1 12 rfl rfl)
theorem dX0_queued_36 : decode cX0_queued 36 = .ok (.iconst 0, 1) := dk_3 (dk_at dksX0_queued_1 13 rfl rfl)
theorem dX0_queued_37 : decode cX0_queued 37 = .ok (.putfield 196, 3) := dk_181 0 196 (dk_at dksX0_queued_1 14 rfl rfl)
theorem dX0_queued_40 : decode cX0_queued 40 = .ok (.iload_n 3, 1) := dk_29 (dk_at dksX0_queued_1 17 rfl rfl)
theorem dX0_queued_41 : decode cX0_queued 41 = .ok (.ireturn, 1) := dk_172 (dk_at dksX0_queued_1 18 rfl rfl)
theorem dX0_queued_42 : decode cX0_queued 42 = .ok (.aload_n 0, 1) := dk_42 (dk_at dksX0_queued_1 19 rfl rfl)
theorem dX0_queued_43 : decode cX0_queued 43 = .ok (.getfield 16, 3) := dk_180 0 16 (dk_at dksX0_queued_1 20 rfl rfl)
theorem dX0_queued_46 : decode cX0_queued 46 = .ok (.getfield 43, 3) := dk_180 0 43 (dk_at dksX0_queued_2 0 rfl rfl)
theorem dX0_queued_49 : decode cX0_queued 49 = .ok (.new 76, 3) := dk_187 0 76 (dk_at dksX0_queued_2 3 rfl rfl)
theorem dX0_queued_52 : decode cX0_queued 52 = .ok (.dup, 1) := dk_89 (dk_at dksX0_queued_2 6 rfl rfl)
theorem dX0_queued_53 : decode cX0_queued 53 = .ok (.aload_n 0, 1) := dk_42 (dk_at dksX0_queued_2 7 rfl rfl)
theorem dX0_queued_54 : decode cX0_queued 54 = .ok (.getfield 16, 3) := dk_180 0 16 (dk_at dksX0_queued_2 8 rfl rfl)
theorem dX0_queued_57 : decode cX0_queued 57 = .ok (.getfield 43, 3) := dk_180 0 43 (dk_at dksX0_queued_2 11 rfl rfl)
theorem dX0_queued_60 : decode cX0_queued 60 = .ok (.invokevirtual 47, 3) := dk_182 0 47 (dk_at dksX0_queued_2 14 rfl rfl)
theorem dX0_queued_63 : decode cX0_queued 63 = .ok (.aload_n 2, 1) := dk_44 (dk_at dksX0_queued_2 17 rfl rfl)
theorem dX0_queued_64 : decode cX0_queued 64 = .ok (.aload_n 1, 1) := dk_43 (dk_at dksX0_queued_2 18 rfl rfl)
theorem dX0_queued_65 : decode cX0_queued 65 = .ok (.invokespecial 221, 3) := dk_183 0 221 (dk_at dksX0_queued_2 19 rfl rfl)
theorem dX0_queued_68 : decode cX0_queued 68 = .ok (.invokevirtual 224, 3) := dk_182 0 224 (dk_at dksX0_queued_3 0 rfl rfl)
theorem dX0_queued_71 : decode cX0_queued 71 = .ok (.pop, 1) := dk_87 (dk_at dksX0_queued_3 3 rfl rfl)
theorem dX0_queued_72 : decode cX0_queued 72 = .ok (.aload_n 0, 1) := dk_42 (dk_at dksX0_queued_3 4 rfl rfl)
theorem dX0_queued_73 : decode cX0_queued 73 = .ok (.getfield 16, 3) := dk_180 0 16 (dk_at dksX0_queued_3 5 rfl rfl)
theorem dX0_queued_76 : decode cX0_queued 76 = .ok (.getfield 43, 3) := dk_180 0 43 (dk_at dksX0_queued_3 8 rfl rfl)
theorem dX0_queued_79 : decode cX0_queued 79 = .ok (.invokevirtual 47, 3) := dk_182 0 47 (dk_at dksX0_queued_3 11 rfl rfl)
theorem dX0_queued_82 : decode cX0_queued 82 = .ok (.iconst 1, 1) := dk_4 (dk_at dksX0_queued_3 14 rfl rfl)
theorem dX0_queued_83 : decode cX0_queued 83 = .ok (.isub, 1) := dk_100 (dk_at dksX0_queued_3 15 rfl rfl)
theorem dX0_queued_84 : decode cX0_queued 84 = .ok (.istore_n 3, 1) := dk_62 (dk_at dksX0_queued_3 16 rfl rfl)
theorem dX0_queued_85 : decode cX0_queued 85 = .ok (.aload_n 0, 1) := dk_42 (dk_at dksX0_queued_3 17 rfl rfl)
theorem dX0_queued_86 : decode cX0_queued 86 = .ok (.iconst 0, 1) := dk_3 (dk_at dksX0_queued_3 18 rfl rfl)
theorem dX0_queued_87 : decode cX0_queued 87 = .ok (.putfield 196, 3) := dk_181 0 196 (dk_at dksX0_queued_3 19 rfl rfl)
theorem dX0_queued_90 : decode cX0_queued 90 = .ok (.iload_n 3, 1) := dk_29 (dk_at dksX0_queued_3 22 rfl rfl)
theorem dX0_queued_91 : decode cX0_queued 91 = .ok (.ireturn, 1) := dk_172 (dk_at dksX0_queued_3 23 rfl rfl)
theorem dX0_queued_92 : decode cX0_queued 92 = .ok (.astore_n 2, 1) := dk_77 (dk_at dksX0_queued_4 0 rfl rfl)
theorem dX0_queued_93 : decode cX0_queued 93 = .ok (.aload_n 0, 1) := dk_42 (dk_at dksX0_queued_4 1 rfl rfl)
theorem dX0_queued_94 : decode cX0_queued 94 = .ok (.bipush (-82), 2) := dk_16 174 (dk_at dksX0_queued_4 2 rfl rfl)
theorem dX0_queued_96 : decode cX0_queued 96 = .ok (.invokevirtual 104, 3) := dk_182 0 104 (dk_at dksX0_queued_4 4 rfl rfl)
theorem dX0_queued_99 : decode cX0_queued 99 = .ok (.pop, 1) := dk_87 (dk_at dksX0_queued_4 7 rfl rfl)
theorem dX0_queued_100 : decode cX0_queued 100 = .ok (.sipush (-300), 3) := dk_17 254 212 (dk_at dksX0_queued_4 8 rfl rfl)
theorem dX0_queued_103 : decode cX0_queued 103 = .ok (.aload_n 2, 1) := dk_44 (dk_at dksX0_queued_4 11 rfl rfl)
theorem dX0_queued_104 : decode cX0_queued 104 = .ok (.getfield 218, 3) := dk_180 0 218 (dk_at dksX0_queued_4 12 rfl rfl)
theorem dX0_queued_107 : decode cX0_queued 107 = .ok (.isub, 1) := dk_100 (dk_at dksX0_queued_4 15 rfl rfl)
theorem dX0_queued_108 : decode cX0_queued 108 = .ok (.istore_n 3, 1) := dk_62 (dk_at dksX0_queued_4 16 rfl rfl)
theorem dX0_queued_109 : decode cX0_queued 109 = .ok (.aload_n 0, 1) := dk_42 (dk_at dksX0_queued_4 17 rfl rfl)
theorem dX0_queued_110 : decode cX0_queued 110 = .ok (.iconst 0, 1) := dk_3 (dk_at dksX0_queued_4 18 rfl rfl)
theorem dX0_queued_111 : decode cX0_queued 111 = .ok (.putfield 196, 3) := dk_181 0 196 (dk_at dksX0_queued_4 19 rfl rfl)
theorem dX0_queued_114 : decode cX0_queued 114 = .ok (.iload_n 3, 1) := dk_29 (dk_at dksX0_queued_4 22 rfl rfl)
theorem dX0_queued_115 : decode cX0_queued 115 = .ok (.ireturn, 1) := dk_172 (dk_at dksX0_queued_4 23 rfl rfl)
theorem dX0_queued_116 : decode cX0_queued 116 = .ok (.astore 4, 2) := dk_58 4 (dk_at dksX0_queued_5 0 rfl rfl)
theorem dX0_queued_118 : decode cX0_queued 118 = .ok (.aload_n 0, 1) := dk_42 (dk_at dksX0_queued_5 2 rfl rfl)
theorem dX0_queued_119 : decode cX0_queued 119 = .ok (.iconst 0, 1) := dk_3 (dk_at dksX0_queued_5 3 rfl rfl)
theorem dX0_queued_120 : decode cX0_queued 120 = .ok (.putfield 196, 3) := dk_181 0 196 (dk_at dksX0_queued_5 4 rfl rfl)
theorem dX0_queued_123 : decode cX0_queued 123 = .ok (.aload 4, 2) := dk_25 4 (dk_at dksX0_queued_5 7 rfl rfl)
theorem dX0_queued_125 : decode cX0_queued 125 = .ok (.athrow, 1) := dk_191 (dk_at dksX0_queued_5 9 rfl rfl)
abbrev cX0_exclusive : ByteArray := prog_1_method_30_code
def yX0_exclusive : MethodName := ⟨RX0, "exclusive", "(II)I"⟩
def dkwX0_exclusive_2 : List UInt8 := [160, 0, 7, 4, 167, 0, 4, 3, 181, 0, 243, 29, 172]
abbrev dktX0_exclusive_2 : List UInt8 := dkwX0_exclusive_2 ++ []
def dkwX0_exclusive_1 : List UInt8 := [42, 27, 182, 0, 239, 180, 0, 243, 153, 0, 7, 4, 167, 0, 4, 3, 62, 42, 27, 182, 0, 239, 28, 4]
abbrev dktX0_exclusive_1 : List UInt8 := dkwX0_exclusive_1 ++ dktX0_exclusive_2
def dkwX0_exclusive_0 : List UInt8 := [42, 27, 182, 0, 236, 153, 0, 12, 28, 3, 4, 184, 0, 39, 154, 0, 10, 42, 16, 174, 182, 0, 104, 172]
abbrev dktX0_exclusive_0 : List UInt8 := dkwX0_exclusive_0 ++ dktX0_exclusive_1
theorem dksX0_exclusive_0 : cX0_exclusive.data.toList.drop 0 = dktX0_exclusive_0 := by decide +kernel
theorem dksX0_exclusive_1 : cX0_exclusive.data.toList.drop 24 = dktX0_exclusive_1 := dk_seg dksX0_exclusive_0 24 rfl rfl
theorem dksX0_exclusive_2 : cX0_exclusive.data.toList.drop 48 = dktX0_exclusive_2 := dk_seg dksX0_exclusive_1 24 rfl rfl
theorem dX0_exclusive_0 : decode cX0_exclusive 0 = .ok (.aload_n 0, 1) := dk_42 (dk_at dksX0_exclusive_0 0 rfl rfl)
theorem dX0_exclusive_1 : decode cX0_exclusive 1 = .ok (.iload_n 1, 1) := dk_27 (dk_at dksX0_exclusive_0 1 rfl rfl)
theorem dX0_exclusive_2 : decode cX0_exclusive 2 = .ok (.invokevirtual 236, 3) := dk_182 0 236 (dk_at dksX0_exclusive_0 2 rfl rfl)
theorem dX0_exclusive_5 : decode cX0_exclusive 5 = .ok (.ifCond .eq 12, 3) := dk_153 0 12 (dk_at dksX0_exclusive_0 5 rfl rfl)
theorem dX0_exclusive_8 : decode cX0_exclusive 8 = .ok (.iload_n 2, 1) := dk_28 (dk_at dksX0_exclusive_0 8 rfl rfl)
theorem dX0_exclusive_9 : decode cX0_exclusive 9 = .ok (.iconst 0, 1) := dk_3 (dk_at dksX0_exclusive_0 9 rfl rfl)
theorem dX0_exclusive_10 : decode cX0_exclusive 10 = .ok (.iconst 1, 1) := dk_4 (dk_at dksX0_exclusive_0 10 rfl rfl)
theorem dX0_exclusive_11 : decode cX0_exclusive 11 = .ok (.invokestatic 39, 3) := dk_184 0 39 (dk_at dksX0_exclusive_0 11 rfl rfl)
theorem dX0_exclusive_14 : decode cX0_exclusive 14 = .ok (.ifCond .ne 10, 3) := dk_154 0 10 (dk_at dksX0_exclusive_0 14 rfl rfl)
theorem dX0_exclusive_17 : decode cX0_exclusive 17 = .ok (.aload_n 0, 1) := dk_42 (dk_at dksX0_exclusive_0 17 rfl rfl)
theorem dX0_exclusive_18 : decode cX0_exclusive 18 = .ok (.bipush (-82), 2) := dk_16 174 (dk_at dksX0_exclusive_0 18 rfl rfl)
theorem dX0_exclusive_20 : decode cX0_exclusive 20 = .ok (.invokevirtual 104, 3) := dk_182 0 104 (dk_at dksX0_exclusive_0 20 rfl rfl)
theorem dX0_exclusive_23 : decode cX0_exclusive 23 = .ok (.ireturn, 1) := dk_172 (dk_at dksX0_exclusive_0 23 rfl rfl)
theorem dX0_exclusive_24 : decode cX0_exclusive 24 = .ok (.aload_n 0, 1) := dk_42 (dk_at dksX0_exclusive_1 0 rfl rfl)
theorem dX0_exclusive_25 : decode cX0_exclusive 25 = .ok (.iload_n 1, 1) := dk_27 (dk_at dksX0_exclusive_1 1 rfl rfl)
theorem dX0_exclusive_26 : decode cX0_exclusive 26 = .ok (.invokevirtual 239, 3) := dk_182 0 239 (dk_at dksX0_exclusive_1 2 rfl rfl)
theorem dX0_exclusive_29 : decode cX0_exclusive 29 = .ok (.getfield 243, 3) := dk_180 0 243 (dk_at dksX0_exclusive_1 5 rfl rfl)
theorem dX0_exclusive_32 : decode cX0_exclusive 32 = .ok (.ifCond .eq 7, 3) := dk_153 0 7 (dk_at dksX0_exclusive_1 8 rfl rfl)
theorem dX0_exclusive_35 : decode cX0_exclusive 35 = .ok (.iconst 1, 1) := dk_4 (dk_at dksX0_exclusive_1 11 rfl rfl)
theorem dX0_exclusive_36 : decode cX0_exclusive 36 = .ok (.goto 4, 3) := dk_167 0 4 (dk_at dksX0_exclusive_1 12 rfl rfl)
theorem dX0_exclusive_39 : decode cX0_exclusive 39 = .ok (.iconst 0, 1) := dk_3 (dk_at dksX0_exclusive_1 15 rfl rfl)
theorem dX0_exclusive_40 : decode cX0_exclusive 40 = .ok (.istore_n 3, 1) := dk_62 (dk_at dksX0_exclusive_1 16 rfl rfl)
theorem dX0_exclusive_41 : decode cX0_exclusive 41 = .ok (.aload_n 0, 1) := dk_42 (dk_at dksX0_exclusive_1 17 rfl rfl)
theorem dX0_exclusive_42 : decode cX0_exclusive 42 = .ok (.iload_n 1, 1) := dk_27 (dk_at dksX0_exclusive_1 18 rfl rfl)
theorem dX0_exclusive_43 : decode cX0_exclusive 43 = .ok (.invokevirtual 239, 3) := dk_182 0 239 (dk_at dksX0_exclusive_1 19 rfl rfl)
theorem dX0_exclusive_46 : decode cX0_exclusive 46 = .ok (.iload_n 2, 1) := dk_28 (dk_at dksX0_exclusive_1 22 rfl rfl)
theorem dX0_exclusive_47 : decode cX0_exclusive 47 = .ok (.iconst 1, 1) := dk_4 (dk_at dksX0_exclusive_1 23 rfl rfl)
theorem dX0_exclusive_48 : decode cX0_exclusive 48 = .ok (.if_icmp .ne 7, 3) := dk_160 0 7 (dk_at dksX0_exclusive_2 0 rfl rfl)
theorem dX0_exclusive_51 : decode cX0_exclusive 51 = .ok (.iconst 1, 1) := dk_4 (dk_at dksX0_exclusive_2 3 rfl rfl)
theorem dX0_exclusive_52 : decode cX0_exclusive 52 = .ok (.goto 4, 3) := dk_167 0 4 (dk_at dksX0_exclusive_2 4 rfl rfl)
theorem dX0_exclusive_55 : decode cX0_exclusive 55 = .ok (.iconst 0, 1) := dk_3 (dk_at dksX0_exclusive_2 7 rfl rfl)
theorem dX0_exclusive_56 : decode cX0_exclusive 56 = .ok (.putfield 243, 3) := dk_181 0 243 (dk_at dksX0_exclusive_2 8 rfl rfl)
theorem dX0_exclusive_59 : decode cX0_exclusive 59 = .ok (.iload_n 3, 1) := dk_29 (dk_at dksX0_exclusive_2 11 rfl rfl)
theorem dX0_exclusive_60 : decode cX0_exclusive 60 = .ok (.ireturn, 1) := dk_172 (dk_at dksX0_exclusive_2 12 rfl rfl)
abbrev cX0_isQueue : ByteArray := prog_1_method_7_code
def yX0_isQueue : MethodName := ⟨RX0, "isQueue", "(I)Z"⟩
def dkwX0_isQueue_0 : List UInt8 := [27, 3, 42, 180, 0, 16, 180, 0, 43, 182, 0, 47, 4, 100, 184, 0, 39, 172]
abbrev dktX0_isQueue_0 : List UInt8 := dkwX0_isQueue_0 ++ []
theorem dksX0_isQueue_0 : cX0_isQueue.data.toList.drop 0 = dktX0_isQueue_0 := by decide +kernel
theorem dX0_isQueue_0 : decode cX0_isQueue 0 = .ok (.iload_n 1, 1) := dk_27 (dk_at dksX0_isQueue_0 0 rfl rfl)
theorem dX0_isQueue_1 : decode cX0_isQueue 1 = .ok (.iconst 0, 1) := dk_3 (dk_at dksX0_isQueue_0 1 rfl rfl)
theorem dX0_isQueue_2 : decode cX0_isQueue 2 = .ok (.aload_n 0, 1) := dk_42 (dk_at dksX0_isQueue_0 2 rfl rfl)
theorem dX0_isQueue_3 : decode cX0_isQueue 3 = .ok (.getfield 16, 3) := dk_180 0 16 (dk_at dksX0_isQueue_0 3 rfl rfl)
theorem dX0_isQueue_6 : decode cX0_isQueue 6 = .ok (.getfield 43, 3) := dk_180 0 43 (dk_at dksX0_isQueue_0 6 rfl rfl)
theorem dX0_isQueue_9 : decode cX0_isQueue 9 = .ok (.invokevirtual 47, 3) := dk_182 0 47 (dk_at dksX0_isQueue_0 9 rfl rfl)
theorem dX0_isQueue_12 : decode cX0_isQueue 12 = .ok (.iconst 1, 1) := dk_4 (dk_at dksX0_isQueue_0 12 rfl rfl)
theorem dX0_isQueue_13 : decode cX0_isQueue 13 = .ok (.isub, 1) := dk_100 (dk_at dksX0_isQueue_0 13 rfl rfl)
theorem dX0_isQueue_14 : decode cX0_isQueue 14 = .ok (.invokestatic 39, 3) := dk_184 0 39 (dk_at dksX0_isQueue_0 14 rfl rfl)
theorem dX0_isQueue_17 : decode cX0_isQueue 17 = .ok (.ireturn, 1) := dk_172 (dk_at dksX0_isQueue_0 17 rfl rfl)
abbrev cX0_queue_2 : ByteArray := prog_1_method_11_code
def yX0_queue_2 : MethodName := ⟨RX0, "queue", "(I)LCreditBroker$Queue;"⟩
def dkwX0_queue_2_0 : List UInt8 := [42, 180, 0, 16, 180, 0, 43, 27, 182, 0, 59, 192, 0, 76, 176]
abbrev dktX0_queue_2_0 : List UInt8 := dkwX0_queue_2_0 ++ []
theorem dksX0_queue_2_0 : cX0_queue_2.data.toList.drop 0 = dktX0_queue_2_0 := by decide +kernel
theorem dX0_queue_2_0 : decode cX0_queue_2 0 = .ok (.aload_n 0, 1) := dk_42 (dk_at dksX0_queue_2_0 0 rfl rfl)
theorem dX0_queue_2_1 : decode cX0_queue_2 1 = .ok (.getfield 16, 3) := dk_180 0 16 (dk_at dksX0_queue_2_0 1 rfl rfl)
theorem dX0_queue_2_4 : decode cX0_queue_2 4 = .ok (.getfield 43, 3) := dk_180 0 43 (dk_at dksX0_queue_2_0 4 rfl rfl)
theorem dX0_queue_2_7 : decode cX0_queue_2 7 = .ok (.iload_n 1, 1) := dk_27 (dk_at dksX0_queue_2_0 7 rfl rfl)
theorem dX0_queue_2_8 : decode cX0_queue_2 8 = .ok (.invokevirtual 59, 3) := dk_182 0 59 (dk_at dksX0_queue_2_0 8 rfl rfl)
theorem dX0_queue_2_11 : decode cX0_queue_2 11 = .ok (.checkcast 76, 3) := dk_192 0 76 (dk_at dksX0_queue_2_0 11 rfl rfl)
theorem dX0_queue_2_14 : decode cX0_queue_2 14 = .ok (.areturn, 1) := dk_176 (dk_at dksX0_queue_2_0 14 rfl rfl)
abbrev cX0_consumer : ByteArray := prog_1_method_31_code
def yX0_consumer : MethodName := ⟨RX0, "consumer", "(I)I"⟩
def dkwX0_consumer_3 : List UInt8 := [180, 0, 16, 180, 0, 52, 182, 0, 47, 4, 100, 172]
abbrev dktX0_consumer_3 : List UInt8 := dkwX0_consumer_3 ++ []
def dkwX0_consumer_2 : List UInt8 := [187, 0, 63, 89, 42, 180, 0, 16, 180, 0, 52, 182, 0, 47, 27, 183, 0, 246, 182, 0, 224, 87, 42]
abbrev dktX0_consumer_2 : List UInt8 := dkwX0_consumer_2 ++ dktX0_consumer_3
def dkwX0_consumer_1 : List UInt8 := [182, 0, 47, 16, 10, 160, 0, 10, 42, 16, 170, 182, 0, 104, 172, 42, 180, 0, 16, 180, 0, 52]
abbrev dktX0_consumer_1 : List UInt8 := dkwX0_consumer_1 ++ dktX0_consumer_2
def dkwX0_consumer_0 : List UInt8 := [42, 27, 182, 0, 236, 154, 0, 10, 42, 16, 174, 182, 0, 104, 172, 42, 180, 0, 16, 180, 0, 52]
abbrev dktX0_consumer_0 : List UInt8 := dkwX0_consumer_0 ++ dktX0_consumer_1
theorem dksX0_consumer_0 : cX0_consumer.data.toList.drop 0 = dktX0_consumer_0 := by decide +kernel
theorem dksX0_consumer_1 : cX0_consumer.data.toList.drop 22 = dktX0_consumer_1 := dk_seg dksX0_consumer_0 22 rfl rfl
theorem dksX0_consumer_2 : cX0_consumer.data.toList.drop 44 = dktX0_consumer_2 := dk_seg dksX0_consumer_1 22 rfl rfl
theorem dksX0_consumer_3 : cX0_consumer.data.toList.drop 67 = dktX0_consumer_3 := dk_seg dksX0_consumer_2 23 rfl rfl
theorem dX0_consumer_0 : decode cX0_consumer 0 = .ok (.aload_n 0, 1) := dk_42 (dk_at dksX0_consumer_0 0 rfl rfl)
theorem dX0_consumer_1 : decode cX0_consumer 1 = .ok (.iload_n 1, 1) := dk_27 (dk_at dksX0_consumer_0 1 rfl rfl)
theorem dX0_consumer_2 : decode cX0_consumer 2 = .ok (.invokevirtual 236, 3) := dk_182 0 236 (dk_at dksX0_consumer_0 2 rfl rfl)
theorem dX0_consumer_5 : decode cX0_consumer 5 = .ok (.ifCond .ne 10, 3) := dk_154 0 10 (dk_at dksX0_consumer_0 5 rfl rfl)
theorem dX0_consumer_8 : decode cX0_consumer 8 = .ok (.aload_n 0, 1) := dk_42 (dk_at dksX0_consumer_0 8 rfl rfl)
theorem dX0_consumer_9 : decode cX0_consumer 9 = .ok (.bipush (-82), 2) := dk_16 174 (dk_at dksX0_consumer_0 9 rfl rfl)
theorem dX0_consumer_11 : decode cX0_consumer 11 = .ok (.invokevirtual 104, 3) := dk_182 0 104 (dk_at dksX0_consumer_0 11 rfl rfl)
theorem dX0_consumer_14 : decode cX0_consumer 14 = .ok (.ireturn, 1) := dk_172 (dk_at dksX0_consumer_0 14 rfl rfl)
theorem dX0_consumer_15 : decode cX0_consumer 15 = .ok (.aload_n 0, 1) := dk_42 (dk_at dksX0_consumer_0 15 rfl rfl)
theorem dX0_consumer_16 : decode cX0_consumer 16 = .ok (.getfield 16, 3) := dk_180 0 16 (dk_at dksX0_consumer_0 16 rfl rfl)
theorem dX0_consumer_19 : decode cX0_consumer 19 = .ok (.getfield 52, 3) := dk_180 0 52 (dk_at dksX0_consumer_0 19 rfl rfl)
theorem dX0_consumer_22 : decode cX0_consumer 22 = .ok (.invokevirtual 47, 3) := dk_182 0 47 (dk_at dksX0_consumer_1 0 rfl rfl)
theorem dX0_consumer_25 : decode cX0_consumer 25 = .ok (.bipush 10, 2) := dk_16 10 (dk_at dksX0_consumer_1 3 rfl rfl)
theorem dX0_consumer_27 : decode cX0_consumer 27 = .ok (.if_icmp .ne 10, 3) := dk_160 0 10 (dk_at dksX0_consumer_1 5 rfl rfl)
theorem dX0_consumer_30 : decode cX0_consumer 30 = .ok (.aload_n 0, 1) := dk_42 (dk_at dksX0_consumer_1 8 rfl rfl)
theorem dX0_consumer_31 : decode cX0_consumer 31 = .ok (.bipush (-86), 2) := dk_16 170 (dk_at dksX0_consumer_1 9 rfl rfl)
theorem dX0_consumer_33 : decode cX0_consumer 33 = .ok (.invokevirtual 104, 3) := dk_182 0 104 (dk_at dksX0_consumer_1 11 rfl rfl)
theorem dX0_consumer_36 : decode cX0_consumer 36 = .ok (.ireturn, 1) := dk_172 (dk_at dksX0_consumer_1 14 rfl rfl)
theorem dX0_consumer_37 : decode cX0_consumer 37 = .ok (.aload_n 0, 1) := dk_42 (dk_at dksX0_consumer_1 15 rfl rfl)
theorem dX0_consumer_38 : decode cX0_consumer 38 = .ok (.getfield 16, 3) := dk_180 0 16 (dk_at dksX0_consumer_1 16 rfl rfl)
theorem dX0_consumer_41 : decode cX0_consumer 41 = .ok (.getfield 52, 3) := dk_180 0 52 (dk_at dksX0_consumer_1 19 rfl rfl)
theorem dX0_consumer_44 : decode cX0_consumer 44 = .ok (.new 63, 3) := dk_187 0 63 (dk_at dksX0_consumer_2 0 rfl rfl)
theorem dX0_consumer_47 : decode cX0_consumer 47 = .ok (.dup, 1) := dk_89 (dk_at dksX0_consumer_2 3 rfl rfl)
theorem dX0_consumer_48 : decode cX0_consumer 48 = .ok (.aload_n 0, 1) := dk_42 (dk_at dksX0_consumer_2 4 rfl rfl)
theorem dX0_consumer_49 : decode cX0_consumer 49 = .ok (.getfield 16, 3) := dk_180 0 16 (dk_at dksX0_consumer_2 5 rfl rfl)
theorem dX0_consumer_52 : decode cX0_consumer 52 = .ok (.getfield 52, 3) := dk_180 0 52 (dk_at dksX0_consumer_2 8 rfl rfl)
theorem dX0_consumer_55 : decode cX0_consumer 55 = .ok (.invokevirtual 47, 3) := dk_182 0 47 (dk_at dksX0_consumer_2 11 rfl rfl)
theorem dX0_consumer_58 : decode cX0_consumer 58 = .ok (.iload_n 1, 1) := dk_27 (dk_at dksX0_consumer_2 14 rfl rfl)
theorem dX0_consumer_59 : decode cX0_consumer 59 = .ok (.invokespecial 246, 3) := dk_183 0 246 (dk_at dksX0_consumer_2 15 rfl rfl)
theorem dX0_consumer_62 : decode cX0_consumer 62 = .ok (.invokevirtual 224, 3) := dk_182 0 224 (dk_at dksX0_consumer_2 18 rfl rfl)
theorem dX0_consumer_65 : decode cX0_consumer 65 = .ok (.pop, 1) := dk_87 (dk_at dksX0_consumer_2 21 rfl rfl)
theorem dX0_consumer_66 : decode cX0_consumer 66 = .ok (.aload_n 0, 1) := dk_42 (dk_at dksX0_consumer_2 22 rfl rfl)
theorem dX0_consumer_67 : decode cX0_consumer 67 = .ok (.getfield 16, 3) := dk_180 0 16 (dk_at dksX0_consumer_3 0 rfl rfl)
theorem dX0_consumer_70 : decode cX0_consumer 70 = .ok (.getfield 52, 3) := dk_180 0 52 (dk_at dksX0_consumer_3 3 rfl rfl)
theorem dX0_consumer_73 : decode cX0_consumer 73 = .ok (.invokevirtual 47, 3) := dk_182 0 47 (dk_at dksX0_consumer_3 6 rfl rfl)
theorem dX0_consumer_76 : decode cX0_consumer 76 = .ok (.iconst 1, 1) := dk_4 (dk_at dksX0_consumer_3 9 rfl rfl)
theorem dX0_consumer_77 : decode cX0_consumer 77 = .ok (.isub, 1) := dk_100 (dk_at dksX0_consumer_3 10 rfl rfl)
theorem dX0_consumer_78 : decode cX0_consumer 78 = .ok (.ireturn, 1) := dk_172 (dk_at dksX0_consumer_3 11 rfl rfl)
abbrev cX0_leave : ByteArray := prog_1_method_32_code
def yX0_leave : MethodName := ⟨RX0, "leave", "(I)I"⟩
def dkwX0_leave_1 : List UInt8 := [192, 0, 63, 182, 0, 252, 167, 0, 9, 42, 16, 174, 182, 0, 104, 172]
abbrev dktX0_leave_1 : List UInt8 := dkwX0_leave_1 ++ []
def dkwX0_leave_0 : List UInt8 := [42, 27, 182, 0, 249, 153, 0, 27, 42, 180, 0, 16, 42, 180, 0, 16, 180, 0, 52, 27, 182, 0, 59]
abbrev dktX0_leave_0 : List UInt8 := dkwX0_leave_0 ++ dktX0_leave_1
theorem dksX0_leave_0 : cX0_leave.data.toList.drop 0 = dktX0_leave_0 := by decide +kernel
theorem dksX0_leave_1 : cX0_leave.data.toList.drop 23 = dktX0_leave_1 := dk_seg dksX0_leave_0 23 rfl rfl
theorem dX0_leave_0 : decode cX0_leave 0 = .ok (.aload_n 0, 1) := dk_42 (dk_at dksX0_leave_0 0 rfl rfl)
theorem dX0_leave_1 : decode cX0_leave 1 = .ok (.iload_n 1, 1) := dk_27 (dk_at dksX0_leave_0 1 rfl rfl)
theorem dX0_leave_2 : decode cX0_leave 2 = .ok (.invokevirtual 249, 3) := dk_182 0 249 (dk_at dksX0_leave_0 2 rfl rfl)
theorem dX0_leave_5 : decode cX0_leave 5 = .ok (.ifCond .eq 27, 3) := dk_153 0 27 (dk_at dksX0_leave_0 5 rfl rfl)
theorem dX0_leave_8 : decode cX0_leave 8 = .ok (.aload_n 0, 1) := dk_42 (dk_at dksX0_leave_0 8 rfl rfl)
theorem dX0_leave_9 : decode cX0_leave 9 = .ok (.getfield 16, 3) := dk_180 0 16 (dk_at dksX0_leave_0 9 rfl rfl)
theorem dX0_leave_12 : decode cX0_leave 12 = .ok (.aload_n 0, 1) := dk_42 (dk_at dksX0_leave_0 12 rfl rfl)
theorem dX0_leave_13 : decode cX0_leave 13 = .ok (.getfield 16, 3) := dk_180 0 16 (dk_at dksX0_leave_0 13 rfl rfl)
theorem dX0_leave_16 : decode cX0_leave 16 = .ok (.getfield 52, 3) := dk_180 0 52 (dk_at dksX0_leave_0 16 rfl rfl)
theorem dX0_leave_19 : decode cX0_leave 19 = .ok (.iload_n 1, 1) := dk_27 (dk_at dksX0_leave_0 19 rfl rfl)
theorem dX0_leave_20 : decode cX0_leave 20 = .ok (.invokevirtual 59, 3) := dk_182 0 59 (dk_at dksX0_leave_0 20 rfl rfl)
theorem dX0_leave_23 : decode cX0_leave 23 = .ok (.checkcast 63, 3) := dk_192 0 63 (dk_at dksX0_leave_1 0 rfl rfl)
theorem dX0_leave_26 : decode cX0_leave 26 = .ok (.invokevirtual 252, 3) := dk_182 0 252 (dk_at dksX0_leave_1 3 rfl rfl)
theorem dX0_leave_29 : decode cX0_leave 29 = .ok (.goto 9, 3) := dk_167 0 9 (dk_at dksX0_leave_1 6 rfl rfl)
theorem dX0_leave_32 : decode cX0_leave 32 = .ok (.aload_n 0, 1) := dk_42 (dk_at dksX0_leave_1 9 rfl rfl)
theorem dX0_leave_33 : decode cX0_leave 33 = .ok (.bipush (-82), 2) := dk_16 174 (dk_at dksX0_leave_1 10 rfl rfl)
theorem dX0_leave_35 : decode cX0_leave 35 = .ok (.invokevirtual 104, 3) := dk_182 0 104 (dk_at dksX0_leave_1 12 rfl rfl)
theorem dX0_leave_38 : decode cX0_leave 38 = .ok (.ireturn, 1) := dk_172 (dk_at dksX0_leave_1 15 rfl rfl)
abbrev cX0_isHere : ByteArray := prog_1_method_9_code
def yX0_isHere : MethodName := ⟨RX0, "isHere", "(I)Z"⟩
def dkwX0_isHere_1 : List UInt8 := [180, 0, 65, 154, 0, 7, 4, 167, 0, 4, 3, 172]
abbrev dktX0_isHere_1 : List UInt8 := dkwX0_isHere_1 ++ []
def dkwX0_isHere_0 : List UInt8 := [42, 27, 182, 0, 55, 153, 0, 27, 42, 180, 0, 16, 180, 0, 52, 27, 182, 0, 59, 192, 0, 63]
abbrev dktX0_isHere_0 : List UInt8 := dkwX0_isHere_0 ++ dktX0_isHere_1
theorem dksX0_isHere_0 : cX0_isHere.data.toList.drop 0 = dktX0_isHere_0 := by decide +kernel
theorem dksX0_isHere_1 : cX0_isHere.data.toList.drop 22 = dktX0_isHere_1 := dk_seg dksX0_isHere_0 22 rfl rfl
theorem dX0_isHere_0 : decode cX0_isHere 0 = .ok (.aload_n 0, 1) := dk_42 (dk_at dksX0_isHere_0 0 rfl rfl)
theorem dX0_isHere_1 : decode cX0_isHere 1 = .ok (.iload_n 1, 1) := dk_27 (dk_at dksX0_isHere_0 1 rfl rfl)
theorem dX0_isHere_2 : decode cX0_isHere 2 = .ok (.invokevirtual 55, 3) := dk_182 0 55 (dk_at dksX0_isHere_0 2 rfl rfl)
theorem dX0_isHere_5 : decode cX0_isHere 5 = .ok (.ifCond .eq 27, 3) := dk_153 0 27 (dk_at dksX0_isHere_0 5 rfl rfl)
theorem dX0_isHere_8 : decode cX0_isHere 8 = .ok (.aload_n 0, 1) := dk_42 (dk_at dksX0_isHere_0 8 rfl rfl)
theorem dX0_isHere_9 : decode cX0_isHere 9 = .ok (.getfield 16, 3) := dk_180 0 16 (dk_at dksX0_isHere_0 9 rfl rfl)
theorem dX0_isHere_12 : decode cX0_isHere 12 = .ok (.getfield 52, 3) := dk_180 0 52 (dk_at dksX0_isHere_0 12 rfl rfl)
theorem dX0_isHere_15 : decode cX0_isHere 15 = .ok (.iload_n 1, 1) := dk_27 (dk_at dksX0_isHere_0 15 rfl rfl)
theorem dX0_isHere_16 : decode cX0_isHere 16 = .ok (.invokevirtual 59, 3) := dk_182 0 59 (dk_at dksX0_isHere_0 16 rfl rfl)
theorem dX0_isHere_19 : decode cX0_isHere 19 = .ok (.checkcast 63, 3) := dk_192 0 63 (dk_at dksX0_isHere_0 19 rfl rfl)
theorem dX0_isHere_22 : decode cX0_isHere 22 = .ok (.getfield 65, 3) := dk_180 0 65 (dk_at dksX0_isHere_1 0 rfl rfl)
theorem dX0_isHere_25 : decode cX0_isHere 25 = .ok (.ifCond .ne 7, 3) := dk_154 0 7 (dk_at dksX0_isHere_1 3 rfl rfl)
theorem dX0_isHere_28 : decode cX0_isHere 28 = .ok (.iconst 1, 1) := dk_4 (dk_at dksX0_isHere_1 6 rfl rfl)
theorem dX0_isHere_29 : decode cX0_isHere 29 = .ok (.goto 4, 3) := dk_167 0 4 (dk_at dksX0_isHere_1 7 rfl rfl)
theorem dX0_isHere_32 : decode cX0_isHere 32 = .ok (.iconst 0, 1) := dk_3 (dk_at dksX0_isHere_1 10 rfl rfl)
theorem dX0_isHere_33 : decode cX0_isHere 33 = .ok (.ireturn, 1) := dk_172 (dk_at dksX0_isHere_1 11 rfl rfl)
abbrev cX0_isConsumer : ByteArray := prog_1_method_8_code
def yX0_isConsumer : MethodName := ⟨RX0, "isConsumer", "(I)Z"⟩
def dkwX0_isConsumer_0 : List UInt8 := [27, 3, 42, 180, 0, 16, 180, 0, 52, 182, 0, 47, 4, 100, 184, 0, 39, 172]
abbrev dktX0_isConsumer_0 : List UInt8 := dkwX0_isConsumer_0 ++ []
theorem dksX0_isConsumer_0 : cX0_isConsumer.data.toList.drop 0 = dktX0_isConsumer_0 := by decide +kernel
theorem dX0_isConsumer_0 : decode cX0_isConsumer 0 = .ok (.iload_n 1, 1) := dk_27 (dk_at dksX0_isConsumer_0 0 rfl rfl)
theorem dX0_isConsumer_1 : decode cX0_isConsumer 1 = .ok (.iconst 0, 1) := dk_3 (dk_at dksX0_isConsumer_0 1 rfl rfl)
theorem dX0_isConsumer_2 : decode cX0_isConsumer 2 = .ok (.aload_n 0, 1) := dk_42 (dk_at dksX0_isConsumer_0 2 rfl rfl)
theorem dX0_isConsumer_3 : decode cX0_isConsumer 3 = .ok (.getfield 16, 3) := dk_180 0 16 (dk_at dksX0_isConsumer_0 3 rfl rfl)
theorem dX0_isConsumer_6 : decode cX0_isConsumer 6 = .ok (.getfield 52, 3) := dk_180 0 52 (dk_at dksX0_isConsumer_0 6 rfl rfl)
theorem dX0_isConsumer_9 : decode cX0_isConsumer 9 = .ok (.invokevirtual 47, 3) := dk_182 0 47 (dk_at dksX0_isConsumer_0 9 rfl rfl)
theorem dX0_isConsumer_12 : decode cX0_isConsumer 12 = .ok (.iconst 1, 1) := dk_4 (dk_at dksX0_isConsumer_0 12 rfl rfl)
theorem dX0_isConsumer_13 : decode cX0_isConsumer 13 = .ok (.isub, 1) := dk_100 (dk_at dksX0_isConsumer_0 13 rfl rfl)
theorem dX0_isConsumer_14 : decode cX0_isConsumer 14 = .ok (.invokestatic 39, 3) := dk_184 0 39 (dk_at dksX0_isConsumer_0 14 rfl rfl)
theorem dX0_isConsumer_17 : decode cX0_isConsumer 17 = .ok (.ireturn, 1) := dk_172 (dk_at dksX0_isConsumer_0 17 rfl rfl)
abbrev cX0_credit : ByteArray := prog_1_method_33_code
def yX0_credit : MethodName := ⟨RX0, "credit", "(II)I"⟩
def dkwX0_credit_3 : List UInt8 := [172]
abbrev dktX0_credit_3 : List UInt8 := dkwX0_credit_3 ++ []
def dkwX0_credit_2 : List UInt8 := [164, 0, 10, 42, 16, 170, 182, 0, 104, 172, 45, 89, 180, 1, 0, 28, 96, 181, 1, 0, 45, 180, 1, 0]
abbrev dktX0_credit_2 : List UInt8 := dkwX0_credit_2 ++ dktX0_credit_3
def dkwX0_credit_1 : List UInt8 := [172, 42, 180, 0, 16, 180, 0, 52, 27, 182, 0, 59, 192, 0, 63, 78, 45, 180, 1, 0, 28, 96, 16, 9]
abbrev dktX0_credit_1 : List UInt8 := dkwX0_credit_1 ++ dktX0_credit_2
def dkwX0_credit_0 : List UInt8 := [42, 27, 182, 0, 249, 153, 0, 13, 28, 4, 16, 9, 184, 0, 39, 154, 0, 10, 42, 16, 174, 182, 0, 104]
abbrev dktX0_credit_0 : List UInt8 := dkwX0_credit_0 ++ dktX0_credit_1
theorem dksX0_credit_0 : cX0_credit.data.toList.drop 0 = dktX0_credit_0 := by decide +kernel
theorem dksX0_credit_1 : cX0_credit.data.toList.drop 24 = dktX0_credit_1 := dk_seg dksX0_credit_0 24 rfl rfl
theorem dksX0_credit_2 : cX0_credit.data.toList.drop 48 = dktX0_credit_2 := dk_seg dksX0_credit_1 24 rfl rfl
theorem dksX0_credit_3 : cX0_credit.data.toList.drop 72 = dktX0_credit_3 := dk_seg dksX0_credit_2 24 rfl rfl
theorem dX0_credit_0 : decode cX0_credit 0 = .ok (.aload_n 0, 1) := dk_42 (dk_at dksX0_credit_0 0 rfl rfl)
theorem dX0_credit_1 : decode cX0_credit 1 = .ok (.iload_n 1, 1) := dk_27 (dk_at dksX0_credit_0 1 rfl rfl)
theorem dX0_credit_2 : decode cX0_credit 2 = .ok (.invokevirtual 249, 3) := dk_182 0 249 (dk_at dksX0_credit_0 2 rfl rfl)
theorem dX0_credit_5 : decode cX0_credit 5 = .ok (.ifCond .eq 13, 3) := dk_153 0 13 (dk_at dksX0_credit_0 5 rfl rfl)
theorem dX0_credit_8 : decode cX0_credit 8 = .ok (.iload_n 2, 1) := dk_28 (dk_at dksX0_credit_0 8 rfl rfl)
theorem dX0_credit_9 : decode cX0_credit 9 = .ok (.iconst 1, 1) := dk_4 (dk_at dksX0_credit_0 9 rfl rfl)
theorem dX0_credit_10 : decode cX0_credit 10 = .ok (.bipush 9, 2) := dk_16 9 (dk_at dksX0_credit_0 10 rfl rfl)
theorem dX0_credit_12 : decode cX0_credit 12 = .ok (.invokestatic 39, 3) := dk_184 0 39 (dk_at dksX0_credit_0 12 rfl rfl)
theorem dX0_credit_15 : decode cX0_credit 15 = .ok (.ifCond .ne 10, 3) := dk_154 0 10 (dk_at dksX0_credit_0 15 rfl rfl)
theorem dX0_credit_18 : decode cX0_credit 18 = .ok (.aload_n 0, 1) := dk_42 (dk_at dksX0_credit_0 18 rfl rfl)
theorem dX0_credit_19 : decode cX0_credit 19 = .ok (.bipush (-82), 2) := dk_16 174 (dk_at dksX0_credit_0 19 rfl rfl)
theorem dX0_credit_21 : decode cX0_credit 21 = .ok (.invokevirtual 104, 3) := dk_182 0 104 (dk_at dksX0_credit_0 21 rfl rfl)
theorem dX0_credit_24 : decode cX0_credit 24 = .ok (.ireturn, 1) := dk_172 (dk_at dksX0_credit_1 0 rfl rfl)
theorem dX0_credit_25 : decode cX0_credit 25 = .ok (.aload_n 0, 1) := dk_42 (dk_at dksX0_credit_1 1 rfl rfl)
theorem dX0_credit_26 : decode cX0_credit 26 = .ok (.getfield 16, 3) := dk_180 0 16 (dk_at dksX0_credit_1 2 rfl rfl)
theorem dX0_credit_29 : decode cX0_credit 29 = .ok (.getfield 52, 3) := dk_180 0 52 (dk_at dksX0_credit_1 5 rfl rfl)
theorem dX0_credit_32 : decode cX0_credit 32 = .ok (.iload_n 1, 1) := dk_27 (dk_at dksX0_credit_1 8 rfl rfl)
theorem dX0_credit_33 : decode cX0_credit 33 = .ok (.invokevirtual 59, 3) := dk_182 0 59 (dk_at dksX0_credit_1 9 rfl rfl)
theorem dX0_credit_36 : decode cX0_credit 36 = .ok (.checkcast 63, 3) := dk_192 0 63 (dk_at dksX0_credit_1 12 rfl rfl)
theorem dX0_credit_39 : decode cX0_credit 39 = .ok (.astore_n 3, 1) := dk_78 (dk_at dksX0_credit_1 15 rfl rfl)
theorem dX0_credit_40 : decode cX0_credit 40 = .ok (.aload_n 3, 1) := dk_45 (dk_at dksX0_credit_1 16 rfl rfl)
theorem dX0_credit_41 : decode cX0_credit 41 = .ok (.getfield 256, 3) := dk_180 1 0 (dk_at dksX0_credit_1 17 rfl rfl)
theorem dX0_credit_44 : decode cX0_credit 44 = .ok (.iload_n 2, 1) := dk_28 (dk_at dksX0_credit_1 20 rfl rfl)
theorem dX0_credit_45 : decode cX0_credit 45 = .ok (.iadd, 1) := dk_96 (dk_at dksX0_credit_1 21 rfl rfl)
theorem dX0_credit_46 : decode cX0_credit 46 = .ok (.bipush 9, 2) := dk_16 9 (dk_at dksX0_credit_1 22 rfl rfl)
theorem dX0_credit_48 : decode cX0_credit 48 = .ok (.if_icmp .le 10, 3) := dk_164 0 10 (dk_at dksX0_credit_2 0 rfl rfl)
theorem dX0_credit_51 : decode cX0_credit 51 = .ok (.aload_n 0, 1) := dk_42 (dk_at dksX0_credit_2 3 rfl rfl)
theorem dX0_credit_52 : decode cX0_credit 52 = .ok (.bipush (-86), 2) := dk_16 170 (dk_at dksX0_credit_2 4 rfl rfl)
theorem dX0_credit_54 : decode cX0_credit 54 = .ok (.invokevirtual 104, 3) := dk_182 0 104 (dk_at dksX0_credit_2 6 rfl rfl)
theorem dX0_credit_57 : decode cX0_credit 57 = .ok (.ireturn, 1) := dk_172 (dk_at dksX0_credit_2 9 rfl rfl)
theorem dX0_credit_58 : decode cX0_credit 58 = .ok (.aload_n 3, 1) := dk_45 (dk_at dksX0_credit_2 10 rfl rfl)
theorem dX0_credit_59 : decode cX0_credit 59 = .ok (.dup, 1) := dk_89 (dk_at dksX0_credit_2 11 rfl rfl)
theorem dX0_credit_60 : decode cX0_credit 60 = .ok (.getfield 256, 3) := dk_180 1 0 (dk_at dksX0_credit_2 12 rfl rfl)
theorem dX0_credit_63 : decode cX0_credit 63 = .ok (.iload_n 2, 1) := dk_28 (dk_at dksX0_credit_2 15 rfl rfl)
theorem dX0_credit_64 : decode cX0_credit 64 = .ok (.iadd, 1) := dk_96 (dk_at dksX0_credit_2 16 rfl rfl)
theorem dX0_credit_65 : decode cX0_credit 65 = .ok (.putfield 256, 3) := dk_181 1 0 (dk_at dksX0_credit_2 17 rfl rfl)
theorem dX0_credit_68 : decode cX0_credit 68 = .ok (.aload_n 3, 1) := dk_45 (dk_at dksX0_credit_2 20 rfl rfl)
theorem dX0_credit_69 : decode cX0_credit 69 = .ok (.getfield 256, 3) := dk_180 1 0 (dk_at dksX0_credit_2 21 rfl rfl)
theorem dX0_credit_72 : decode cX0_credit 72 = .ok (.ireturn, 1) := dk_172 (dk_at dksX0_credit_3 0 rfl rfl)
abbrev cX0_publish : ByteArray := prog_1_method_34_code
def yX0_publish : MethodName := ⟨RX0, "publish", "(III)I"⟩
def dkwX0_publish_3 : List UInt8 := [42, 180, 0, 16, 6, 188, 10, 89, 3, 27, 79, 89, 4, 28, 79, 89, 5, 29, 79, 182, 1, 6, 172]
abbrev dktX0_publish_3 : List UInt8 := dkwX0_publish_3 ++ []
def dkwX0_publish_2 : List UInt8 := [180, 0, 16, 180, 1, 3, 182, 0, 47, 17, 1, 44, 160, 0, 12, 42, 16, 170, 182, 0, 104, 167, 0, 25]
abbrev dktX0_publish_2 : List UInt8 := dkwX0_publish_2 ++ dktX0_publish_3
def dkwX0_publish_1 : List UInt8 := [182, 0, 104, 172, 42, 180, 0, 16, 180, 0, 207, 199, 0, 10, 42, 16, 171, 182, 0, 104, 172, 42]
abbrev dktX0_publish_1 : List UInt8 := dkwX0_publish_1 ++ dktX0_publish_2
def dkwX0_publish_0 : List UInt8 := [27, 3, 16, 7, 184, 0, 39, 153, 0, 12, 28, 3, 6, 184, 0, 39, 154, 0, 10, 42, 16, 174]
abbrev dktX0_publish_0 : List UInt8 := dkwX0_publish_0 ++ dktX0_publish_1
theorem dksX0_publish_0 : cX0_publish.data.toList.drop 0 = dktX0_publish_0 := by decide +kernel
theorem dksX0_publish_1 : cX0_publish.data.toList.drop 22 = dktX0_publish_1 := dk_seg dksX0_publish_0 22 rfl rfl
theorem dksX0_publish_2 : cX0_publish.data.toList.drop 44 = dktX0_publish_2 := dk_seg dksX0_publish_1 22 rfl rfl
theorem dksX0_publish_3 : cX0_publish.data.toList.drop 68 = dktX0_publish_3 := dk_seg dksX0_publish_2 24 rfl rfl
theorem dX0_publish_0 : decode cX0_publish 0 = .ok (.iload_n 1, 1) := dk_27 (dk_at dksX0_publish_0 0 rfl rfl)
theorem dX0_publish_1 : decode cX0_publish 1 = .ok (.iconst 0, 1) := dk_3 (dk_at dksX0_publish_0 1 rfl rfl)
theorem dX0_publish_2 : decode cX0_publish 2 = .ok (.bipush 7, 2) := dk_16 7 (dk_at dksX0_publish_0 2 rfl rfl)
theorem dX0_publish_4 : decode cX0_publish 4 = .ok (.invokestatic 39, 3) := dk_184 0 39 (dk_at dksX0_publish_0 4 rfl rfl)
theorem dX0_publish_7 : decode cX0_publish 7 = .ok (.ifCond .eq 12, 3) := dk_153 0 12 (dk_at dksX0_publish_0 7 rfl rfl)
theorem dX0_publish_10 : decode cX0_publish 10 = .ok (.iload_n 2, 1) := dk_28 (dk_at dksX0_publish_0 10 rfl rfl)
theorem dX0_publish_11 : decode cX0_publish 11 = .ok (.iconst 0, 1) := dk_3 (dk_at dksX0_publish_0 11 rfl rfl)
theorem dX0_publish_12 : decode cX0_publish 12 = .ok (.iconst 3, 1) := dk_6 (dk_at dksX0_publish_0 12 rfl rfl)
theorem dX0_publish_13 : decode cX0_publish 13 = .ok (.invokestatic 39, 3) := dk_184 0 39 (dk_at dksX0_publish_0 13 rfl rfl)
theorem dX0_publish_16 : decode cX0_publish 16 = .ok (.ifCond .ne 10, 3) := dk_154 0 10 (dk_at dksX0_publish_0 16 rfl rfl)
theorem dX0_publish_19 : decode cX0_publish 19 = .ok (.aload_n 0, 1) := dk_42 (dk_at dksX0_publish_0 19 rfl rfl)
theorem dX0_publish_20 : decode cX0_publish 20 = .ok (.bipush (-82), 2) := dk_16 174 (dk_at dksX0_publish_0 20 rfl rfl)
theorem dX0_publish_22 : decode cX0_publish 22 = .ok (.invokevirtual 104, 3) := dk_182 0 104 (dk_at dksX0_publish_1 0 rfl rfl)
theorem dX0_publish_25 : decode cX0_publish 25 = .ok (.ireturn, 1) := dk_172 (dk_at dksX0_publish_1 3 rfl rfl)
theorem dX0_publish_26 : decode cX0_publish 26 = .ok (.aload_n 0, 1) := dk_42 (dk_at dksX0_publish_1 4 rfl rfl)
theorem dX0_publish_27 : decode cX0_publish 27 = .ok (.getfield 16, 3) := dk_180 0 16 (dk_at dksX0_publish_1 5 rfl rfl)
theorem dX0_publish_30 : decode cX0_publish 30 = .ok (.getfield 207, 3) := dk_180 0 207 (dk_at dksX0_publish_1 8 rfl rfl)
theorem dX0_publish_33 : decode cX0_publish 33 = .ok (.ifnonnull 10, 3) := dk_199 0 10 (dk_at dksX0_publish_1 11 rfl rfl)
theorem dX0_publish_36 : decode cX0_publish 36 = .ok (.aload_n 0, 1) := dk_42 (dk_at dksX0_publish_1 14 rfl rfl)
theorem dX0_publish_37 : decode cX0_publish 37 = .ok (.bipush (-85), 2) := dk_16 171 (dk_at dksX0_publish_1 15 rfl rfl)
theorem dX0_publish_39 : decode cX0_publish 39 = .ok (.invokevirtual 104, 3) := dk_182 0 104 (dk_at dksX0_publish_1 17 rfl rfl)
theorem dX0_publish_42 : decode cX0_publish 42 = .ok (.ireturn, 1) := dk_172 (dk_at dksX0_publish_1 20 rfl rfl)
theorem dX0_publish_43 : decode cX0_publish 43 = .ok (.aload_n 0, 1) := dk_42 (dk_at dksX0_publish_1 21 rfl rfl)
theorem dX0_publish_44 : decode cX0_publish 44 = .ok (.getfield 16, 3) := dk_180 0 16 (dk_at dksX0_publish_2 0 rfl rfl)
theorem dX0_publish_47 : decode cX0_publish 47 = .ok (.getfield 259, 3) := dk_180 1 3 (dk_at dksX0_publish_2 3 rfl rfl)
theorem dX0_publish_50 : decode cX0_publish 50 = .ok (.invokevirtual 47, 3) := dk_182 0 47 (dk_at dksX0_publish_2 6 rfl rfl)
theorem dX0_publish_53 : decode cX0_publish 53 = .ok (.sipush 300, 3) := dk_17 1 44 (dk_at dksX0_publish_2 9 rfl rfl)
theorem dX0_publish_56 : decode cX0_publish 56 = .ok (.if_icmp .ne 12, 3) := dk_160 0 12 (dk_at dksX0_publish_2 12 rfl rfl)
theorem dX0_publish_59 : decode cX0_publish 59 = .ok (.aload_n 0, 1) := dk_42 (dk_at dksX0_publish_2 15 rfl rfl)
theorem dX0_publish_60 : decode cX0_publish 60 = .ok (.bipush (-86), 2) := dk_16 170 (dk_at dksX0_publish_2 16 rfl rfl)
theorem dX0_publish_62 : decode cX0_publish 62 = .ok (.invokevirtual 104, 3) := dk_182 0 104 (dk_at dksX0_publish_2 18 rfl rfl)
theorem dX0_publish_65 : decode cX0_publish 65 = .ok (.goto 25, 3) := dk_167 0 25 (dk_at dksX0_publish_2 21 rfl rfl)
theorem dX0_publish_68 : decode cX0_publish 68 = .ok (.aload_n 0, 1) := dk_42 (dk_at dksX0_publish_3 0 rfl rfl)
theorem dX0_publish_69 : decode cX0_publish 69 = .ok (.getfield 16, 3) := dk_180 0 16 (dk_at dksX0_publish_3 1 rfl rfl)
theorem dX0_publish_72 : decode cX0_publish 72 = .ok (.iconst 3, 1) := dk_6 (dk_at dksX0_publish_3 4 rfl rfl)
theorem dX0_publish_73 : decode cX0_publish 73 = .ok (.newarray .int, 2) := dk_188_10 (dk_at dksX0_publish_3 5 rfl rfl)
theorem dX0_publish_75 : decode cX0_publish 75 = .ok (.dup, 1) := dk_89 (dk_at dksX0_publish_3 7 rfl rfl)
theorem dX0_publish_76 : decode cX0_publish 76 = .ok (.iconst 0, 1) := dk_3 (dk_at dksX0_publish_3 8 rfl rfl)
theorem dX0_publish_77 : decode cX0_publish 77 = .ok (.iload_n 1, 1) := dk_27 (dk_at dksX0_publish_3 9 rfl rfl)
theorem dX0_publish_78 : decode cX0_publish 78 = .ok (.iastore, 1) := dk_79 (dk_at dksX0_publish_3 10 rfl rfl)
theorem dX0_publish_79 : decode cX0_publish 79 = .ok (.dup, 1) := dk_89 (dk_at dksX0_publish_3 11 rfl rfl)
theorem dX0_publish_80 : decode cX0_publish 80 = .ok (.iconst 1, 1) := dk_4 (dk_at dksX0_publish_3 12 rfl rfl)
theorem dX0_publish_81 : decode cX0_publish 81 = .ok (.iload_n 2, 1) := dk_28 (dk_at dksX0_publish_3 13 rfl rfl)
theorem dX0_publish_82 : decode cX0_publish 82 = .ok (.iastore, 1) := dk_79 (dk_at dksX0_publish_3 14 rfl rfl)
theorem dX0_publish_83 : decode cX0_publish 83 = .ok (.dup, 1) := dk_89 (dk_at dksX0_publish_3 15 rfl rfl)
theorem dX0_publish_84 : decode cX0_publish 84 = .ok (.iconst 2, 1) := dk_5 (dk_at dksX0_publish_3 16 rfl rfl)
theorem dX0_publish_85 : decode cX0_publish 85 = .ok (.iload_n 3, 1) := dk_29 (dk_at dksX0_publish_3 17 rfl rfl)
theorem dX0_publish_86 : decode cX0_publish 86 = .ok (.iastore, 1) := dk_79 (dk_at dksX0_publish_3 18 rfl rfl)
theorem dX0_publish_87 : decode cX0_publish 87 = .ok (.invokevirtual 262, 3) := dk_182 1 6 (dk_at dksX0_publish_3 19 rfl rfl)
theorem dX0_publish_90 : decode cX0_publish 90 = .ok (.ireturn, 1) := dk_172 (dk_at dksX0_publish_3 22 rfl rfl)
abbrev cX0_give : ByteArray := prog_1_method_35_code
def yX0_give : MethodName := ⟨RX0, "give", "(I)I"⟩
def dkwX0_give_1 : List UInt8 := [16, 174, 182, 0, 104, 172]
abbrev dktX0_give_1 : List UInt8 := dkwX0_give_1 ++ []
def dkwX0_give_0 : List UInt8 := [42, 27, 182, 0, 236, 153, 0, 18, 42, 180, 0, 16, 42, 27, 182, 0, 239, 182, 1, 9, 167, 0, 9, 42]
abbrev dktX0_give_0 : List UInt8 := dkwX0_give_0 ++ dktX0_give_1
theorem dksX0_give_0 : cX0_give.data.toList.drop 0 = dktX0_give_0 := by decide +kernel
theorem dksX0_give_1 : cX0_give.data.toList.drop 24 = dktX0_give_1 := dk_seg dksX0_give_0 24 rfl rfl
theorem dX0_give_0 : decode cX0_give 0 = .ok (.aload_n 0, 1) := dk_42 (dk_at dksX0_give_0 0 rfl rfl)
theorem dX0_give_1 : decode cX0_give 1 = .ok (.iload_n 1, 1) := dk_27 (dk_at dksX0_give_0 1 rfl rfl)
theorem dX0_give_2 : decode cX0_give 2 = .ok (.invokevirtual 236, 3) := dk_182 0 236 (dk_at dksX0_give_0 2 rfl rfl)
theorem dX0_give_5 : decode cX0_give 5 = .ok (.ifCond .eq 18, 3) := dk_153 0 18 (dk_at dksX0_give_0 5 rfl rfl)
theorem dX0_give_8 : decode cX0_give 8 = .ok (.aload_n 0, 1) := dk_42 (dk_at dksX0_give_0 8 rfl rfl)
theorem dX0_give_9 : decode cX0_give 9 = .ok (.getfield 16, 3) := dk_180 0 16 (dk_at dksX0_give_0 9 rfl rfl)
theorem dX0_give_12 : decode cX0_give 12 = .ok (.aload_n 0, 1) := dk_42 (dk_at dksX0_give_0 12 rfl rfl)
theorem dX0_give_13 : decode cX0_give 13 = .ok (.iload_n 1, 1) := dk_27 (dk_at dksX0_give_0 13 rfl rfl)
theorem dX0_give_14 : decode cX0_give 14 = .ok (.invokevirtual 239, 3) := dk_182 0 239 (dk_at dksX0_give_0 14 rfl rfl)
theorem dX0_give_17 : decode cX0_give 17 = .ok (.invokevirtual 265, 3) := dk_182 1 9 (dk_at dksX0_give_0 17 rfl rfl)
theorem dX0_give_20 : decode cX0_give 20 = .ok (.goto 9, 3) := dk_167 0 9 (dk_at dksX0_give_0 20 rfl rfl)
theorem dX0_give_23 : decode cX0_give 23 = .ok (.aload_n 0, 1) := dk_42 (dk_at dksX0_give_0 23 rfl rfl)
theorem dX0_give_24 : decode cX0_give 24 = .ok (.bipush (-82), 2) := dk_16 174 (dk_at dksX0_give_1 0 rfl rfl)
theorem dX0_give_26 : decode cX0_give 26 = .ok (.invokevirtual 104, 3) := dk_182 0 104 (dk_at dksX0_give_1 2 rfl rfl)
theorem dX0_give_29 : decode cX0_give 29 = .ok (.ireturn, 1) := dk_172 (dk_at dksX0_give_1 5 rfl rfl)
abbrev cX0_giveAll : ByteArray := prog_1_method_36_code
def yX0_giveAll : MethodName := ⟨RX0, "giveAll", "(I)I"⟩
def dkwX0_giveAll_1 : List UInt8 := [182, 0, 239, 182, 1, 9, 2, 159, 0, 9, 132, 2, 1, 167, 255, 237, 28, 172]
abbrev dktX0_giveAll_1 : List UInt8 := dkwX0_giveAll_1 ++ []
def dkwX0_giveAll_0 : List UInt8 := [42, 27, 182, 0, 236, 154, 0, 10, 42, 16, 174, 182, 0, 104, 172, 3, 61, 42, 180, 0, 16, 42, 27]
abbrev dktX0_giveAll_0 : List UInt8 := dkwX0_giveAll_0 ++ dktX0_giveAll_1
theorem dksX0_giveAll_0 : cX0_giveAll.data.toList.drop 0 = dktX0_giveAll_0 := by decide +kernel
theorem dksX0_giveAll_1 : cX0_giveAll.data.toList.drop 23 = dktX0_giveAll_1 := dk_seg dksX0_giveAll_0 23 rfl rfl
theorem dX0_giveAll_0 : decode cX0_giveAll 0 = .ok (.aload_n 0, 1) := dk_42 (dk_at dksX0_giveAll_0 0 rfl rfl)
theorem dX0_giveAll_1 : decode cX0_giveAll 1 = .ok (.iload_n 1, 1) := dk_27 (dk_at dksX0_giveAll_0 1 rfl rfl)
theorem dX0_giveAll_2 : decode cX0_giveAll 2 = .ok (.invokevirtual 236, 3) := dk_182 0 236 (dk_at dksX0_giveAll_0 2 rfl rfl)
theorem dX0_giveAll_5 : decode cX0_giveAll 5 = .ok (.ifCond .ne 10, 3) := dk_154 0 10 (dk_at dksX0_giveAll_0 5 rfl rfl)
theorem dX0_giveAll_8 : decode cX0_giveAll 8 = .ok (.aload_n 0, 1) := dk_42 (dk_at dksX0_giveAll_0 8 rfl rfl)
theorem dX0_giveAll_9 : decode cX0_giveAll 9 = .ok (.bipush (-82), 2) := dk_16 174 (dk_at dksX0_giveAll_0 9 rfl rfl)
theorem dX0_giveAll_11 : decode cX0_giveAll 11 = .ok (.invokevirtual 104, 3) := dk_182 0 104 (dk_at dksX0_giveAll_0 11 rfl rfl)
theorem dX0_giveAll_14 : decode cX0_giveAll 14 = .ok (.ireturn, 1) := dk_172 (dk_at dksX0_giveAll_0 14 rfl rfl)
theorem dX0_giveAll_15 : decode cX0_giveAll 15 = .ok (.iconst 0, 1) := dk_3 (dk_at dksX0_giveAll_0 15 rfl rfl)
theorem dX0_giveAll_16 : decode cX0_giveAll 16 = .ok (.istore_n 2, 1) := dk_61 (dk_at dksX0_giveAll_0 16 rfl rfl)
theorem dX0_giveAll_17 : decode cX0_giveAll 17 = .ok (.aload_n 0, 1) := dk_42 (dk_at dksX0_giveAll_0 17 rfl rfl)
theorem dX0_giveAll_18 : decode cX0_giveAll 18 = .ok (.getfield 16, 3) := dk_180 0 16 (dk_at dksX0_giveAll_0 18 rfl rfl)
theorem dX0_giveAll_21 : decode cX0_giveAll 21 = .ok (.aload_n 0, 1) := dk_42 (dk_at dksX0_giveAll_0 21 rfl rfl)
theorem dX0_giveAll_22 : decode cX0_giveAll 22 = .ok (.iload_n 1, 1) := dk_27 (dk_at dksX0_giveAll_0 22 rfl rfl)
theorem dX0_giveAll_23 : decode cX0_giveAll 23 = .ok (.invokevirtual 239, 3) := dk_182 0 239 (dk_at dksX0_giveAll_1 0 rfl rfl)
theorem dX0_giveAll_26 : decode cX0_giveAll 26 = .ok (.invokevirtual 265, 3) := dk_182 1 9 (dk_at dksX0_giveAll_1 3 rfl rfl)
theorem dX0_giveAll_29 : decode cX0_giveAll 29 = .ok (.iconst (-1), 1) := dk_2 (dk_at dksX0_giveAll_1 6 rfl rfl)
theorem dX0_giveAll_30 : decode cX0_giveAll 30 = .ok (.if_icmp .eq 9, 3) := dk_159 0 9 (dk_at dksX0_giveAll_1 7 rfl rfl)
theorem dX0_giveAll_33 : decode cX0_giveAll 33 = .ok (.iinc 2 1, 3) := dk_132 2 1 (dk_at dksX0_giveAll_1 10 rfl rfl)
theorem dX0_giveAll_36 : decode cX0_giveAll 36 = .ok (.goto (-19), 3) := dk_167 255 237 (dk_at dksX0_giveAll_1 13 rfl rfl)
theorem dX0_giveAll_39 : decode cX0_giveAll 39 = .ok (.iload_n 2, 1) := dk_28 (dk_at dksX0_giveAll_1 16 rfl rfl)
theorem dX0_giveAll_40 : decode cX0_giveAll 40 = .ok (.ireturn, 1) := dk_172 (dk_at dksX0_giveAll_1 17 rfl rfl)
abbrev cX0_ack : ByteArray := prog_1_method_38_code
def yX0_ack : MethodName := ⟨RX0, "ack", "(II)I"⟩
def dkwX0_ack_2 : List UInt8 := [42, 180, 0, 16, 27, 28, 182, 1, 24, 182, 1, 27, 42, 45, 182, 1, 31, 172]
abbrev dktX0_ack_2 : List UInt8 := dkwX0_ack_2 ++ []
def dkwX0_ack_1 : List UInt8 := [182, 0, 104, 172, 42, 180, 0, 16, 180, 0, 52, 27, 182, 0, 59, 192, 0, 63, 78, 42, 180, 0, 16, 45]
abbrev dktX0_ack_1 : List UInt8 := dkwX0_ack_1 ++ dktX0_ack_2
def dkwX0_ack_0 : List UInt8 := [42, 27, 182, 0, 249, 153, 0, 15, 42, 180, 0, 16, 27, 28, 182, 1, 24, 199, 0, 10, 42, 16, 174]
abbrev dktX0_ack_0 : List UInt8 := dkwX0_ack_0 ++ dktX0_ack_1
theorem dksX0_ack_0 : cX0_ack.data.toList.drop 0 = dktX0_ack_0 := by decide +kernel
theorem dksX0_ack_1 : cX0_ack.data.toList.drop 23 = dktX0_ack_1 := dk_seg dksX0_ack_0 23 rfl rfl
theorem dksX0_ack_2 : cX0_ack.data.toList.drop 47 = dktX0_ack_2 := dk_seg dksX0_ack_1 24 rfl rfl
theorem dX0_ack_0 : decode cX0_ack 0 = .ok (.aload_n 0, 1) := dk_42 (dk_at dksX0_ack_0 0 rfl rfl)
theorem dX0_ack_1 : decode cX0_ack 1 = .ok (.iload_n 1, 1) := dk_27 (dk_at dksX0_ack_0 1 rfl rfl)
theorem dX0_ack_2 : decode cX0_ack 2 = .ok (.invokevirtual 249, 3) := dk_182 0 249 (dk_at dksX0_ack_0 2 rfl rfl)
theorem dX0_ack_5 : decode cX0_ack 5 = .ok (.ifCond .eq 15, 3) := dk_153 0 15 (dk_at dksX0_ack_0 5 rfl rfl)
theorem dX0_ack_8 : decode cX0_ack 8 = .ok (.aload_n 0, 1) := dk_42 (dk_at dksX0_ack_0 8 rfl rfl)
theorem dX0_ack_9 : decode cX0_ack 9 = .ok (.getfield 16, 3) := dk_180 0 16 (dk_at dksX0_ack_0 9 rfl rfl)
theorem dX0_ack_12 : decode cX0_ack 12 = .ok (.iload_n 1, 1) := dk_27 (dk_at dksX0_ack_0 12 rfl rfl)
theorem dX0_ack_13 : decode cX0_ack 13 = .ok (.iload_n 2, 1) := dk_28 (dk_at dksX0_ack_0 13 rfl rfl)
theorem dX0_ack_14 : decode cX0_ack 14 = .ok (.invokevirtual 280, 3) := dk_182 1 24 (dk_at dksX0_ack_0 14 rfl rfl)
theorem dX0_ack_17 : decode cX0_ack 17 = .ok (.ifnonnull 10, 3) := dk_199 0 10 (dk_at dksX0_ack_0 17 rfl rfl)
theorem dX0_ack_20 : decode cX0_ack 20 = .ok (.aload_n 0, 1) := dk_42 (dk_at dksX0_ack_0 20 rfl rfl)
theorem dX0_ack_21 : decode cX0_ack 21 = .ok (.bipush (-82), 2) := dk_16 174 (dk_at dksX0_ack_0 21 rfl rfl)
theorem dX0_ack_23 : decode cX0_ack 23 = .ok (.invokevirtual 104, 3) := dk_182 0 104 (dk_at dksX0_ack_1 0 rfl rfl)
theorem dX0_ack_26 : decode cX0_ack 26 = .ok (.ireturn, 1) := dk_172 (dk_at dksX0_ack_1 3 rfl rfl)
theorem dX0_ack_27 : decode cX0_ack 27 = .ok (.aload_n 0, 1) := dk_42 (dk_at dksX0_ack_1 4 rfl rfl)
theorem dX0_ack_28 : decode cX0_ack 28 = .ok (.getfield 16, 3) := dk_180 0 16 (dk_at dksX0_ack_1 5 rfl rfl)
theorem dX0_ack_31 : decode cX0_ack 31 = .ok (.getfield 52, 3) := dk_180 0 52 (dk_at dksX0_ack_1 8 rfl rfl)
theorem dX0_ack_34 : decode cX0_ack 34 = .ok (.iload_n 1, 1) := dk_27 (dk_at dksX0_ack_1 11 rfl rfl)
theorem dX0_ack_35 : decode cX0_ack 35 = .ok (.invokevirtual 59, 3) := dk_182 0 59 (dk_at dksX0_ack_1 12 rfl rfl)
theorem dX0_ack_38 : decode cX0_ack 38 = .ok (.checkcast 63, 3) := dk_192 0 63 (dk_at dksX0_ack_1 15 rfl rfl)
theorem dX0_ack_41 : decode cX0_ack 41 = .ok (.astore_n 3, 1) := dk_78 (dk_at dksX0_ack_1 18 rfl rfl)
theorem dX0_ack_42 : decode cX0_ack 42 = .ok (.aload_n 0, 1) := dk_42 (dk_at dksX0_ack_1 19 rfl rfl)
theorem dX0_ack_43 : decode cX0_ack 43 = .ok (.getfield 16, 3) := dk_180 0 16 (dk_at dksX0_ack_1 20 rfl rfl)
theorem dX0_ack_46 : decode cX0_ack 46 = .ok (.aload_n 3, 1) := dk_45 (dk_at dksX0_ack_1 23 rfl rfl)
theorem dX0_ack_47 : decode cX0_ack 47 = .ok (.aload_n 0, 1) := dk_42 (dk_at dksX0_ack_2 0 rfl rfl)
theorem dX0_ack_48 : decode cX0_ack 48 = .ok (.getfield 16, 3) := dk_180 0 16 (dk_at dksX0_ack_2 1 rfl rfl)
theorem dX0_ack_51 : decode cX0_ack 51 = .ok (.iload_n 1, 1) := dk_27 (dk_at dksX0_ack_2 4 rfl rfl)
theorem dX0_ack_52 : decode cX0_ack 52 = .ok (.iload_n 2, 1) := dk_28 (dk_at dksX0_ack_2 5 rfl rfl)
theorem dX0_ack_53 : decode cX0_ack 53 = .ok (.invokevirtual 280, 3) := dk_182 1 24 (dk_at dksX0_ack_2 6 rfl rfl)
theorem dX0_ack_56 : decode cX0_ack 56 = .ok (.invokevirtual 283, 3) := dk_182 1 27 (dk_at dksX0_ack_2 9 rfl rfl)
theorem dX0_ack_59 : decode cX0_ack 59 = .ok (.aload_n 0, 1) := dk_42 (dk_at dksX0_ack_2 12 rfl rfl)
theorem dX0_ack_60 : decode cX0_ack 60 = .ok (.aload_n 3, 1) := dk_45 (dk_at dksX0_ack_2 13 rfl rfl)
theorem dX0_ack_61 : decode cX0_ack 61 = .ok (.invokevirtual 287, 3) := dk_182 1 31 (dk_at dksX0_ack_2 14 rfl rfl)
theorem dX0_ack_64 : decode cX0_ack 64 = .ok (.ireturn, 1) := dk_172 (dk_at dksX0_ack_2 17 rfl rfl)
abbrev cX0_manyOut : ByteArray := prog_1_method_37_code
def yX0_manyOut : MethodName := ⟨RX0, "manyOut", "(LCreditBroker$Consumer;)I"⟩
def dkwX0_manyOut_0 : List UInt8 := [42, 180, 0, 16, 43, 182, 1, 13, 43, 186, 1, 17, 0, 0, 182, 1, 21, 172]
abbrev dktX0_manyOut_0 : List UInt8 := dkwX0_manyOut_0 ++ []
theorem dksX0_manyOut_0 : cX0_manyOut.data.toList.drop 0 = dktX0_manyOut_0 := by decide +kernel
theorem dX0_manyOut_0 : decode cX0_manyOut 0 = .ok (.aload_n 0, 1) := dk_42 (dk_at dksX0_manyOut_0 0 rfl rfl)
theorem dX0_manyOut_1 : decode cX0_manyOut 1 = .ok (.getfield 16, 3) := dk_180 0 16 (dk_at dksX0_manyOut_0 1 rfl rfl)
theorem dX0_manyOut_4 : decode cX0_manyOut 4 = .ok (.aload_n 1, 1) := dk_43 (dk_at dksX0_manyOut_0 4 rfl rfl)
theorem dX0_manyOut_5 : decode cX0_manyOut 5 = .ok (.invokevirtual 269, 3) := dk_182 1 13 (dk_at dksX0_manyOut_0 5 rfl rfl)
theorem dX0_manyOut_8 : decode cX0_manyOut 8 = .ok (.aload_n 1, 1) := dk_43 (dk_at dksX0_manyOut_0 8 rfl rfl)
theorem dX0_manyOut_9 : decode cX0_manyOut 9 = .ok (.invokedynamic 273, 5) := by decide +kernel
theorem dX0_manyOut_14 : decode cX0_manyOut 14 = .ok (.invokevirtual 277, 3) := dk_182 1 21 (dk_at dksX0_manyOut_0 14 rfl rfl)
theorem dX0_manyOut_17 : decode cX0_manyOut 17 = .ok (.ireturn, 1) := dk_172 (dk_at dksX0_manyOut_0 17 rfl rfl)
abbrev cX0_lambda_manyOut_0 : ByteArray := prog_1_method_77_code
def yX0_lambda_manyOut_0 : MethodName := ⟨RX0, "lambda$manyOut$0", "(LCreditBroker$Consumer;LCreditBroker$Letter;)Z"⟩
def dkwX0_lambda_manyOut_0_0 : List UInt8 := [43, 42, 180, 1, 172, 182, 1, 242, 172]
abbrev dktX0_lambda_manyOut_0_0 : List UInt8 := dkwX0_lambda_manyOut_0_0 ++ []
theorem dksX0_lambda_manyOut_0_0 : cX0_lambda_manyOut_0.data.toList.drop 0 = dktX0_lambda_manyOut_0_0 := by decide +kernel
theorem dX0_lambda_manyOut_0_0 : decode cX0_lambda_manyOut_0 0 = .ok (.aload_n 1, 1) := dk_43 (dk_at dksX0_lambda_manyOut_0_0 0 rfl rfl)
theorem dX0_lambda_manyOut_0_1 : decode cX0_lambda_manyOut_0 1 = .ok (.aload_n 0, 1) := dk_42 (dk_at dksX0_lambda_manyOut_0_0 1 rfl rfl)
theorem dX0_lambda_manyOut_0_2 : decode cX0_lambda_manyOut_0 2 = .ok (.getfield 428, 3) := dk_180 1 172 (dk_at dksX0_lambda_manyOut_0_0 2 rfl rfl)
theorem dX0_lambda_manyOut_0_5 : decode cX0_lambda_manyOut_0 5 = .ok (.invokevirtual 498, 3) := dk_182 1 242 (dk_at dksX0_lambda_manyOut_0_0 5 rfl rfl)
theorem dX0_lambda_manyOut_0_8 : decode cX0_lambda_manyOut_0 8 = .ok (.ireturn, 1) := dk_172 (dk_at dksX0_lambda_manyOut_0_0 8 rfl rfl)
abbrev cX0_nack : ByteArray := prog_1_method_39_code
def yX0_nack : MethodName := ⟨RX0, "nack", "(II)I"⟩
def dkwX0_nack_2 : List UInt8 := [180, 0, 16, 27, 28, 182, 1, 24, 182, 1, 34, 172]
abbrev dktX0_nack_2 : List UInt8 := dkwX0_nack_2 ++ []
def dkwX0_nack_1 : List UInt8 := [182, 0, 104, 172, 42, 180, 0, 16, 42, 180, 0, 16, 180, 0, 52, 27, 182, 0, 59, 192, 0, 63, 42]
abbrev dktX0_nack_1 : List UInt8 := dkwX0_nack_1 ++ dktX0_nack_2
def dkwX0_nack_0 : List UInt8 := [42, 27, 182, 0, 249, 153, 0, 15, 42, 180, 0, 16, 27, 28, 182, 1, 24, 199, 0, 10, 42, 16, 174]
abbrev dktX0_nack_0 : List UInt8 := dkwX0_nack_0 ++ dktX0_nack_1
theorem dksX0_nack_0 : cX0_nack.data.toList.drop 0 = dktX0_nack_0 := by decide +kernel
theorem dksX0_nack_1 : cX0_nack.data.toList.drop 23 = dktX0_nack_1 := dk_seg dksX0_nack_0 23 rfl rfl
theorem dksX0_nack_2 : cX0_nack.data.toList.drop 46 = dktX0_nack_2 := dk_seg dksX0_nack_1 23 rfl rfl
theorem dX0_nack_0 : decode cX0_nack 0 = .ok (.aload_n 0, 1) := dk_42 (dk_at dksX0_nack_0 0 rfl rfl)
theorem dX0_nack_1 : decode cX0_nack 1 = .ok (.iload_n 1, 1) := dk_27 (dk_at dksX0_nack_0 1 rfl rfl)
theorem dX0_nack_2 : decode cX0_nack 2 = .ok (.invokevirtual 249, 3) := dk_182 0 249 (dk_at dksX0_nack_0 2 rfl rfl)
theorem dX0_nack_5 : decode cX0_nack 5 = .ok (.ifCond .eq 15, 3) := dk_153 0 15 (dk_at dksX0_nack_0 5 rfl rfl)
theorem dX0_nack_8 : decode cX0_nack 8 = .ok (.aload_n 0, 1) := dk_42 (dk_at dksX0_nack_0 8 rfl rfl)
theorem dX0_nack_9 : decode cX0_nack 9 = .ok (.getfield 16, 3) := dk_180 0 16 (dk_at dksX0_nack_0 9 rfl rfl)
theorem dX0_nack_12 : decode cX0_nack 12 = .ok (.iload_n 1, 1) := dk_27 (dk_at dksX0_nack_0 12 rfl rfl)
theorem dX0_nack_13 : decode cX0_nack 13 = .ok (.iload_n 2, 1) := dk_28 (dk_at dksX0_nack_0 13 rfl rfl)
theorem dX0_nack_14 : decode cX0_nack 14 = .ok (.invokevirtual 280, 3) := dk_182 1 24 (dk_at dksX0_nack_0 14 rfl rfl)
theorem dX0_nack_17 : decode cX0_nack 17 = .ok (.ifnonnull 10, 3) := dk_199 0 10 (dk_at dksX0_nack_0 17 rfl rfl)
theorem dX0_nack_20 : decode cX0_nack 20 = .ok (.aload_n 0, 1) := dk_42 (dk_at dksX0_nack_0 20 rfl rfl)
theorem dX0_nack_21 : decode cX0_nack 21 = .ok (.bipush (-82), 2) := dk_16 174 (dk_at dksX0_nack_0 21 rfl rfl)
theorem dX0_nack_23 : decode cX0_nack 23 = .ok (.invokevirtual 104, 3) := dk_182 0 104 (dk_at dksX0_nack_1 0 rfl rfl)
theorem dX0_nack_26 : decode cX0_nack 26 = .ok (.ireturn, 1) := dk_172 (dk_at dksX0_nack_1 3 rfl rfl)
theorem dX0_nack_27 : decode cX0_nack 27 = .ok (.aload_n 0, 1) := dk_42 (dk_at dksX0_nack_1 4 rfl rfl)
theorem dX0_nack_28 : decode cX0_nack 28 = .ok (.getfield 16, 3) := dk_180 0 16 (dk_at dksX0_nack_1 5 rfl rfl)
theorem dX0_nack_31 : decode cX0_nack 31 = .ok (.aload_n 0, 1) := dk_42 (dk_at dksX0_nack_1 8 rfl rfl)
theorem dX0_nack_32 : decode cX0_nack 32 = .ok (.getfield 16, 3) := dk_180 0 16 (dk_at dksX0_nack_1 9 rfl rfl)
theorem dX0_nack_35 : decode cX0_nack 35 = .ok (.getfield 52, 3) := dk_180 0 52 (dk_at dksX0_nack_1 12 rfl rfl)
theorem dX0_nack_38 : decode cX0_nack 38 = .ok (.iload_n 1, 1) := dk_27 (dk_at dksX0_nack_1 15 rfl rfl)
theorem dX0_nack_39 : decode cX0_nack 39 = .ok (.invokevirtual 59, 3) := dk_182 0 59 (dk_at dksX0_nack_1 16 rfl rfl)
theorem dX0_nack_42 : decode cX0_nack 42 = .ok (.checkcast 63, 3) := dk_192 0 63 (dk_at dksX0_nack_1 19 rfl rfl)
theorem dX0_nack_45 : decode cX0_nack 45 = .ok (.aload_n 0, 1) := dk_42 (dk_at dksX0_nack_1 22 rfl rfl)
theorem dX0_nack_46 : decode cX0_nack 46 = .ok (.getfield 16, 3) := dk_180 0 16 (dk_at dksX0_nack_2 0 rfl rfl)
theorem dX0_nack_49 : decode cX0_nack 49 = .ok (.iload_n 1, 1) := dk_27 (dk_at dksX0_nack_2 3 rfl rfl)
theorem dX0_nack_50 : decode cX0_nack 50 = .ok (.iload_n 2, 1) := dk_28 (dk_at dksX0_nack_2 4 rfl rfl)
theorem dX0_nack_51 : decode cX0_nack 51 = .ok (.invokevirtual 280, 3) := dk_182 1 24 (dk_at dksX0_nack_2 5 rfl rfl)
theorem dX0_nack_54 : decode cX0_nack 54 = .ok (.invokevirtual 290, 3) := dk_182 1 34 (dk_at dksX0_nack_2 8 rfl rfl)
theorem dX0_nack_57 : decode cX0_nack 57 = .ok (.ireturn, 1) := dk_172 (dk_at dksX0_nack_2 11 rfl rfl)
abbrev cX0_pass : ByteArray := prog_1_method_40_code
def yX0_pass : MethodName := ⟨RX0, "pass", "(I)I"⟩
def dkwX0_pass_1 : List UInt8 := [162, 0, 19, 28, 42, 180, 0, 16, 182, 1, 38, 96, 61, 132, 3, 1, 167, 255, 238, 28, 172]
abbrev dktX0_pass_1 : List UInt8 := dkwX0_pass_1 ++ []
def dkwX0_pass_0 : List UInt8 := [27, 3, 16, 99, 184, 0, 39, 154, 0, 10, 42, 16, 174, 182, 0, 104, 172, 3, 61, 3, 62, 29, 27]
abbrev dktX0_pass_0 : List UInt8 := dkwX0_pass_0 ++ dktX0_pass_1
theorem dksX0_pass_0 : cX0_pass.data.toList.drop 0 = dktX0_pass_0 := by decide +kernel
theorem dksX0_pass_1 : cX0_pass.data.toList.drop 23 = dktX0_pass_1 := dk_seg dksX0_pass_0 23 rfl rfl
theorem dX0_pass_0 : decode cX0_pass 0 = .ok (.iload_n 1, 1) := dk_27 (dk_at dksX0_pass_0 0 rfl rfl)
theorem dX0_pass_1 : decode cX0_pass 1 = .ok (.iconst 0, 1) := dk_3 (dk_at dksX0_pass_0 1 rfl rfl)
theorem dX0_pass_2 : decode cX0_pass 2 = .ok (.bipush 99, 2) := dk_16 99 (dk_at dksX0_pass_0 2 rfl rfl)
theorem dX0_pass_4 : decode cX0_pass 4 = .ok (.invokestatic 39, 3) := dk_184 0 39 (dk_at dksX0_pass_0 4 rfl rfl)
theorem dX0_pass_7 : decode cX0_pass 7 = .ok (.ifCond .ne 10, 3) := dk_154 0 10 (dk_at dksX0_pass_0 7 rfl rfl)
theorem dX0_pass_10 : decode cX0_pass 10 = .ok (.aload_n 0, 1) := dk_42 (dk_at dksX0_pass_0 10 rfl rfl)
theorem dX0_pass_11 : decode cX0_pass 11 = .ok (.bipush (-82), 2) := dk_16 174 (dk_at dksX0_pass_0 11 rfl rfl)
theorem dX0_pass_13 : decode cX0_pass 13 = .ok (.invokevirtual 104, 3) := dk_182 0 104 (dk_at dksX0_pass_0 13 rfl rfl)
theorem dX0_pass_16 : decode cX0_pass 16 = .ok (.ireturn, 1) := dk_172 (dk_at dksX0_pass_0 16 rfl rfl)
theorem dX0_pass_17 : decode cX0_pass 17 = .ok (.iconst 0, 1) := dk_3 (dk_at dksX0_pass_0 17 rfl rfl)
theorem dX0_pass_18 : decode cX0_pass 18 = .ok (.istore_n 2, 1) := dk_61 (dk_at dksX0_pass_0 18 rfl rfl)
theorem dX0_pass_19 : decode cX0_pass 19 = .ok (.iconst 0, 1) := dk_3 (dk_at dksX0_pass_0 19 rfl rfl)
theorem dX0_pass_20 : decode cX0_pass 20 = .ok (.istore_n 3, 1) := dk_62 (dk_at dksX0_pass_0 20 rfl rfl)
theorem dX0_pass_21 : decode cX0_pass 21 = .ok (.iload_n 3, 1) := dk_29 (dk_at dksX0_pass_0 21 rfl rfl)
theorem dX0_pass_22 : decode cX0_pass 22 = .ok (.iload_n 1, 1) := dk_27 (dk_at dksX0_pass_0 22 rfl rfl)
theorem dX0_pass_23 : decode cX0_pass 23 = .ok (.if_icmp .ge 19, 3) := dk_162 0 19 (dk_at dksX0_pass_1 0 rfl rfl)
theorem dX0_pass_26 : decode cX0_pass 26 = .ok (.iload_n 2, 1) := dk_28 (dk_at dksX0_pass_1 3 rfl rfl)
theorem dX0_pass_27 : decode cX0_pass 27 = .ok (.aload_n 0, 1) := dk_42 (dk_at dksX0_pass_1 4 rfl rfl)
theorem dX0_pass_28 : decode cX0_pass 28 = .ok (.getfield 16, 3) := dk_180 0 16 (dk_at dksX0_pass_1 5 rfl rfl)
theorem dX0_pass_31 : decode cX0_pass 31 = .ok (.invokevirtual 294, 3) := dk_182 1 38 (dk_at dksX0_pass_1 8 rfl rfl)
theorem dX0_pass_34 : decode cX0_pass 34 = .ok (.iadd, 1) := dk_96 (dk_at dksX0_pass_1 11 rfl rfl)
theorem dX0_pass_35 : decode cX0_pass 35 = .ok (.istore_n 2, 1) := dk_61 (dk_at dksX0_pass_1 12 rfl rfl)
theorem dX0_pass_36 : decode cX0_pass 36 = .ok (.iinc 3 1, 3) := dk_132 3 1 (dk_at dksX0_pass_1 13 rfl rfl)
theorem dX0_pass_39 : decode cX0_pass 39 = .ok (.goto (-18), 3) := dk_167 255 238 (dk_at dksX0_pass_1 16 rfl rfl)
theorem dX0_pass_42 : decode cX0_pass 42 = .ok (.iload_n 2, 1) := dk_28 (dk_at dksX0_pass_1 19 rfl rfl)
theorem dX0_pass_43 : decode cX0_pass 43 = .ok (.ireturn, 1) := dk_172 (dk_at dksX0_pass_1 20 rfl rfl)
abbrev cX0_revive : ByteArray := prog_1_method_41_code
def yX0_revive : MethodName := ⟨RX0, "revive", "(I)I"⟩
def dkwX0_revive_4 : List UInt8 := [172]
abbrev dktX0_revive_4 : List UInt8 := dkwX0_revive_4 ++ []
def dkwX0_revive_3 : List UInt8 := [187, 1, 50, 89, 44, 180, 1, 52, 183, 1, 56, 182, 1, 59, 42, 180, 0, 16, 180, 0, 69, 182, 0, 73]
abbrev dktX0_revive_3 : List UInt8 := dkwX0_revive_3 ++ dktX0_revive_4
def dkwX0_revive_2 : List UInt8 := [182, 0, 104, 172, 42, 180, 0, 16, 180, 0, 69, 27, 182, 1, 47, 87, 42, 44, 180, 1, 41, 182, 0, 239]
abbrev dktX0_revive_2 : List UInt8 := dkwX0_revive_2 ++ dktX0_revive_3
def dkwX0_revive_1 : List UInt8 := [182, 0, 81, 192, 0, 82, 77, 42, 44, 180, 1, 41, 182, 0, 239, 182, 1, 43, 153, 0, 10, 42, 16, 170]
abbrev dktX0_revive_1 : List UInt8 := dkwX0_revive_1 ++ dktX0_revive_2
def dkwX0_revive_0 : List UInt8 := [42, 27, 182, 0, 78, 154, 0, 10, 42, 16, 174, 182, 0, 104, 172, 42, 180, 0, 16, 180, 0, 69, 27]
abbrev dktX0_revive_0 : List UInt8 := dkwX0_revive_0 ++ dktX0_revive_1
theorem dksX0_revive_0 : cX0_revive.data.toList.drop 0 = dktX0_revive_0 := by decide +kernel
theorem dksX0_revive_1 : cX0_revive.data.toList.drop 23 = dktX0_revive_1 := dk_seg dksX0_revive_0 23 rfl rfl
theorem dksX0_revive_2 : cX0_revive.data.toList.drop 47 = dktX0_revive_2 := dk_seg dksX0_revive_1 24 rfl rfl
theorem dksX0_revive_3 : cX0_revive.data.toList.drop 71 = dktX0_revive_3 := dk_seg dksX0_revive_2 24 rfl rfl
theorem dksX0_revive_4 : cX0_revive.data.toList.drop 95 = dktX0_revive_4 := dk_seg dksX0_revive_3 24 rfl rfl
theorem dX0_revive_0 : decode cX0_revive 0 = .ok (.aload_n 0, 1) := dk_42 (dk_at dksX0_revive_0 0 rfl rfl)
theorem dX0_revive_1 : decode cX0_revive 1 = .ok (.iload_n 1, 1) := dk_27 (dk_at dksX0_revive_0 1 rfl rfl)
theorem dX0_revive_2 : decode cX0_revive 2 = .ok (.invokevirtual 78, 3) := dk_182 0 78 (dk_at dksX0_revive_0 2 rfl rfl)
theorem dX0_revive_5 : decode cX0_revive 5 = .ok (.ifCond .ne 10, 3) := dk_154 0 10 (dk_at dksX0_revive_0 5 rfl rfl)
theorem dX0_revive_8 : decode cX0_revive 8 = .ok (.aload_n 0, 1) := dk_42 (dk_at dksX0_revive_0 8 rfl rfl)
theorem dX0_revive_9 : decode cX0_revive 9 = .ok (.bipush (-82), 2) := dk_16 174 (dk_at dksX0_revive_0 9 rfl rfl)
theorem dX0_revive_11 : decode cX0_revive 11 = .ok (.invokevirtual 104, 3) := dk_182 0 104 (dk_at dksX0_revive_0 11 rfl rfl)
theorem dX0_revive_14 : decode cX0_revive 14 = .ok (.ireturn, 1) := dk_172 (dk_at dksX0_revive_0 14 rfl rfl)
theorem dX0_revive_15 : decode cX0_revive 15 = .ok (.aload_n 0, 1) := dk_42 (dk_at dksX0_revive_0 15 rfl rfl)
theorem dX0_revive_16 : decode cX0_revive 16 = .ok (.getfield 16, 3) := dk_180 0 16 (dk_at dksX0_revive_0 16 rfl rfl)
theorem dX0_revive_19 : decode cX0_revive 19 = .ok (.getfield 69, 3) := dk_180 0 69 (dk_at dksX0_revive_0 19 rfl rfl)
theorem dX0_revive_22 : decode cX0_revive 22 = .ok (.iload_n 1, 1) := dk_27 (dk_at dksX0_revive_0 22 rfl rfl)
theorem dX0_revive_23 : decode cX0_revive 23 = .ok (.invokevirtual 81, 3) := dk_182 0 81 (dk_at dksX0_revive_1 0 rfl rfl)
theorem dX0_revive_26 : decode cX0_revive 26 = .ok (.checkcast 82, 3) := dk_192 0 82 (dk_at dksX0_revive_1 3 rfl rfl)
theorem dX0_revive_29 : decode cX0_revive 29 = .ok (.astore_n 2, 1) := dk_77 (dk_at dksX0_revive_1 6 rfl rfl)
theorem dX0_revive_30 : decode cX0_revive 30 = .ok (.aload_n 0, 1) := dk_42 (dk_at dksX0_revive_1 7 rfl rfl)
theorem dX0_revive_31 : decode cX0_revive 31 = .ok (.aload_n 2, 1) := dk_44 (dk_at dksX0_revive_1 8 rfl rfl)
theorem dX0_revive_32 : decode cX0_revive 32 = .ok (.getfield 297, 3) := dk_180 1 41 (dk_at dksX0_revive_1 9 rfl rfl)
theorem dX0_revive_35 : decode cX0_revive 35 = .ok (.invokevirtual 239, 3) := dk_182 0 239 (dk_at dksX0_revive_1 12 rfl rfl)
theorem dX0_revive_38 : decode cX0_revive 38 = .ok (.invokevirtual 299, 3) := dk_182 1 43 (dk_at dksX0_revive_1 15 rfl rfl)
theorem dX0_revive_41 : decode cX0_revive 41 = .ok (.ifCond .eq 10, 3) := dk_153 0 10 (dk_at dksX0_revive_1 18 rfl rfl)
theorem dX0_revive_44 : decode cX0_revive 44 = .ok (.aload_n 0, 1) := dk_42 (dk_at dksX0_revive_1 21 rfl rfl)
theorem dX0_revive_45 : decode cX0_revive 45 = .ok (.bipush (-86), 2) := dk_16 170 (dk_at dksX0_revive_1 22 rfl rfl)
theorem dX0_revive_47 : decode cX0_revive 47 = .ok (.invokevirtual 104, 3) := dk_182 0 104 (dk_at dksX0_revive_2 0 rfl rfl)
theorem dX0_revive_50 : decode cX0_revive 50 = .ok (.ireturn, 1) := dk_172 (dk_at dksX0_revive_2 3 rfl rfl)
theorem dX0_revive_51 : decode cX0_revive 51 = .ok (.aload_n 0, 1) := dk_42 (dk_at dksX0_revive_2 4 rfl rfl)
theorem dX0_revive_52 : decode cX0_revive 52 = .ok (.getfield 16, 3) := dk_180 0 16 (dk_at dksX0_revive_2 5 rfl rfl)
theorem dX0_revive_55 : decode cX0_revive 55 = .ok (.getfield 69, 3) := dk_180 0 69 (dk_at dksX0_revive_2 8 rfl rfl)
theorem dX0_revive_58 : decode cX0_revive 58 = .ok (.iload_n 1, 1) := dk_27 (dk_at dksX0_revive_2 11 rfl rfl)
theorem dX0_revive_59 : decode cX0_revive 59 = .ok (.invokevirtual 303, 3) := dk_182 1 47 (dk_at dksX0_revive_2 12 rfl rfl)
theorem dX0_revive_62 : decode cX0_revive 62 = .ok (.pop, 1) := dk_87 (dk_at dksX0_revive_2 15 rfl rfl)
theorem dX0_revive_63 : decode cX0_revive 63 = .ok (.aload_n 0, 1) := dk_42 (dk_at dksX0_revive_2 16 rfl rfl)
theorem dX0_revive_64 : decode cX0_revive 64 = .ok (.aload_n 2, 1) := dk_44 (dk_at dksX0_revive_2 17 rfl rfl)
theorem dX0_revive_65 : decode cX0_revive 65 = .ok (.getfield 297, 3) := dk_180 1 41 (dk_at dksX0_revive_2 18 rfl rfl)
theorem dX0_revive_68 : decode cX0_revive 68 = .ok (.invokevirtual 239, 3) := dk_182 0 239 (dk_at dksX0_revive_2 21 rfl rfl)
theorem dX0_revive_71 : decode cX0_revive 71 = .ok (.new 306, 3) := dk_187 1 50 (dk_at dksX0_revive_3 0 rfl rfl)
theorem dX0_revive_74 : decode cX0_revive 74 = .ok (.dup, 1) := dk_89 (dk_at dksX0_revive_3 3 rfl rfl)
theorem dX0_revive_75 : decode cX0_revive 75 = .ok (.aload_n 2, 1) := dk_44 (dk_at dksX0_revive_3 4 rfl rfl)
theorem dX0_revive_76 : decode cX0_revive 76 = .ok (.getfield 308, 3) := dk_180 1 52 (dk_at dksX0_revive_3 5 rfl rfl)
theorem dX0_revive_79 : decode cX0_revive 79 = .ok (.invokespecial 312, 3) := dk_183 1 56 (dk_at dksX0_revive_3 8 rfl rfl)
theorem dX0_revive_82 : decode cX0_revive 82 = .ok (.invokevirtual 315, 3) := dk_182 1 59 (dk_at dksX0_revive_3 11 rfl rfl)
theorem dX0_revive_85 : decode cX0_revive 85 = .ok (.aload_n 0, 1) := dk_42 (dk_at dksX0_revive_3 14 rfl rfl)
theorem dX0_revive_86 : decode cX0_revive 86 = .ok (.getfield 16, 3) := dk_180 0 16 (dk_at dksX0_revive_3 15 rfl rfl)
theorem dX0_revive_89 : decode cX0_revive 89 = .ok (.getfield 69, 3) := dk_180 0 69 (dk_at dksX0_revive_3 18 rfl rfl)
theorem dX0_revive_92 : decode cX0_revive 92 = .ok (.invokevirtual 73, 3) := dk_182 0 73 (dk_at dksX0_revive_3 21 rfl rfl)
theorem dX0_revive_95 : decode cX0_revive 95 = .ok (.ireturn, 1) := dk_172 (dk_at dksX0_revive_4 0 rfl rfl)
abbrev cX0_bury : ByteArray := prog_1_method_42_code
def yX0_bury : MethodName := ⟨RX0, "bury", "(I)I"⟩
def dkwX0_bury_3 : List UInt8 := [45, 185, 1, 76, 1, 0, 132, 2, 1, 167, 255, 213, 28, 172]
abbrev dktX0_bury_3 : List UInt8 := dkwX0_bury_3 ++ []
def dkwX0_bury_2 : List UInt8 := [185, 1, 72, 1, 0, 192, 0, 82, 180, 1, 41, 54, 4, 27, 2, 159, 0, 9, 21, 4, 27, 160, 0, 12]
abbrev dktX0_bury_2 : List UInt8 := dkwX0_bury_2 ++ dktX0_bury_3
def dkwX0_bury_1 : List UInt8 := [180, 0, 16, 180, 0, 69, 182, 1, 63, 78, 45, 185, 1, 67, 1, 0, 153, 0, 40, 45]
abbrev dktX0_bury_1 : List UInt8 := dkwX0_bury_1 ++ dktX0_bury_2
def dkwX0_bury_0 : List UInt8 := [27, 2, 159, 0, 18, 42, 27, 182, 0, 236, 154, 0, 10, 42, 16, 174, 182, 0, 104, 172, 3, 61, 42]
abbrev dktX0_bury_0 : List UInt8 := dkwX0_bury_0 ++ dktX0_bury_1
theorem dksX0_bury_0 : cX0_bury.data.toList.drop 0 = dktX0_bury_0 := by decide +kernel
theorem dksX0_bury_1 : cX0_bury.data.toList.drop 23 = dktX0_bury_1 := dk_seg dksX0_bury_0 23 rfl rfl
theorem dksX0_bury_2 : cX0_bury.data.toList.drop 43 = dktX0_bury_2 := dk_seg dksX0_bury_1 20 rfl rfl
theorem dksX0_bury_3 : cX0_bury.data.toList.drop 67 = dktX0_bury_3 := dk_seg dksX0_bury_2 24 rfl rfl
theorem dX0_bury_0 : decode cX0_bury 0 = .ok (.iload_n 1, 1) := dk_27 (dk_at dksX0_bury_0 0 rfl rfl)
theorem dX0_bury_1 : decode cX0_bury 1 = .ok (.iconst (-1), 1) := dk_2 (dk_at dksX0_bury_0 1 rfl rfl)
theorem dX0_bury_2 : decode cX0_bury 2 = .ok (.if_icmp .eq 18, 3) := dk_159 0 18 (dk_at dksX0_bury_0 2 rfl rfl)
theorem dX0_bury_5 : decode cX0_bury 5 = .ok (.aload_n 0, 1) := dk_42 (dk_at dksX0_bury_0 5 rfl rfl)
theorem dX0_bury_6 : decode cX0_bury 6 = .ok (.iload_n 1, 1) := dk_27 (dk_at dksX0_bury_0 6 rfl rfl)
theorem dX0_bury_7 : decode cX0_bury 7 = .ok (.invokevirtual 236, 3) := dk_182 0 236 (dk_at dksX0_bury_0 7 rfl rfl)
theorem dX0_bury_10 : decode cX0_bury 10 = .ok (.ifCond .ne 10, 3) := dk_154 0 10 (dk_at dksX0_bury_0 10 rfl rfl)
theorem dX0_bury_13 : decode cX0_bury 13 = .ok (.aload_n 0, 1) := dk_42 (dk_at dksX0_bury_0 13 rfl rfl)
theorem dX0_bury_14 : decode cX0_bury 14 = .ok (.bipush (-82), 2) := dk_16 174 (dk_at dksX0_bury_0 14 rfl rfl)
theorem dX0_bury_16 : decode cX0_bury 16 = .ok (.invokevirtual 104, 3) := dk_182 0 104 (dk_at dksX0_bury_0 16 rfl rfl)
theorem dX0_bury_19 : decode cX0_bury 19 = .ok (.ireturn, 1) := dk_172 (dk_at dksX0_bury_0 19 rfl rfl)
theorem dX0_bury_20 : decode cX0_bury 20 = .ok (.iconst 0, 1) := dk_3 (dk_at dksX0_bury_0 20 rfl rfl)
theorem dX0_bury_21 : decode cX0_bury 21 = .ok (.istore_n 2, 1) := dk_61 (dk_at dksX0_bury_0 21 rfl rfl)
theorem dX0_bury_22 : decode cX0_bury 22 = .ok (.aload_n 0, 1) := dk_42 (dk_at dksX0_bury_0 22 rfl rfl)
theorem dX0_bury_23 : decode cX0_bury 23 = .ok (.getfield 16, 3) := dk_180 0 16 (dk_at dksX0_bury_1 0 rfl rfl)
theorem dX0_bury_26 : decode cX0_bury 26 = .ok (.getfield 69, 3) := dk_180 0 69 (dk_at dksX0_bury_1 3 rfl rfl)
theorem dX0_bury_29 : decode cX0_bury 29 = .ok (.invokevirtual 319, 3) := dk_182 1 63 (dk_at dksX0_bury_1 6 rfl rfl)
theorem dX0_bury_32 : decode cX0_bury 32 = .ok (.astore_n 3, 1) := dk_78 (dk_at dksX0_bury_1 9 rfl rfl)
theorem dX0_bury_33 : decode cX0_bury 33 = .ok (.aload_n 3, 1) := dk_45 (dk_at dksX0_bury_1 10 rfl rfl)
theorem dX0_bury_34 : decode cX0_bury 34 = .ok (.invokeinterface 323 1, 5) := by decide +kernel
theorem dX0_bury_39 : decode cX0_bury 39 = .ok (.ifCond .eq 40, 3) := dk_153 0 40 (dk_at dksX0_bury_1 16 rfl rfl)
theorem dX0_bury_42 : decode cX0_bury 42 = .ok (.aload_n 3, 1) := dk_45 (dk_at dksX0_bury_1 19 rfl rfl)
theorem dX0_bury_43 : decode cX0_bury 43 = .ok (.invokeinterface 328 1, 5) := by decide +kernel
theorem dX0_bury_48 : decode cX0_bury 48 = .ok (.checkcast 82, 3) := dk_192 0 82 (dk_at dksX0_bury_2 5 rfl rfl)
theorem dX0_bury_51 : decode cX0_bury 51 = .ok (.getfield 297, 3) := dk_180 1 41 (dk_at dksX0_bury_2 8 rfl rfl)
theorem dX0_bury_54 : decode cX0_bury 54 = .ok (.istore 4, 2) := dk_54 4 (dk_at dksX0_bury_2 11 rfl rfl)
theorem dX0_bury_56 : decode cX0_bury 56 = .ok (.iload_n 1, 1) := dk_27 (dk_at dksX0_bury_2 13 rfl rfl)
theorem dX0_bury_57 : decode cX0_bury 57 = .ok (.iconst (-1), 1) := dk_2 (dk_at dksX0_bury_2 14 rfl rfl)
theorem dX0_bury_58 : decode cX0_bury 58 = .ok (.if_icmp .eq 9, 3) := dk_159 0 9 (dk_at dksX0_bury_2 15 rfl rfl)
theorem dX0_bury_61 : decode cX0_bury 61 = .ok (.iload 4, 2) := dk_21 4 (dk_at dksX0_bury_2 18 rfl rfl)
theorem dX0_bury_63 : decode cX0_bury 63 = .ok (.iload_n 1, 1) := dk_27 (dk_at dksX0_bury_2 20 rfl rfl)
theorem dX0_bury_64 : decode cX0_bury 64 = .ok (.if_icmp .ne 12, 3) := dk_160 0 12 (dk_at dksX0_bury_2 21 rfl rfl)
theorem dX0_bury_67 : decode cX0_bury 67 = .ok (.aload_n 3, 1) := dk_45 (dk_at dksX0_bury_3 0 rfl rfl)
theorem dX0_bury_68 : decode cX0_bury 68 = .ok (.invokeinterface 332 1, 5) := by decide +kernel
theorem dX0_bury_73 : decode cX0_bury 73 = .ok (.iinc 2 1, 3) := dk_132 2 1 (dk_at dksX0_bury_3 6 rfl rfl)
theorem dX0_bury_76 : decode cX0_bury 76 = .ok (.goto (-43), 3) := dk_167 255 213 (dk_at dksX0_bury_3 9 rfl rfl)
theorem dX0_bury_79 : decode cX0_bury 79 = .ok (.iload_n 2, 1) := dk_28 (dk_at dksX0_bury_3 12 rfl rfl)
theorem dX0_bury_80 : decode cX0_bury 80 = .ok (.ireturn, 1) := dk_172 (dk_at dksX0_bury_3 13 rfl rfl)
abbrev cX0_purge : ByteArray := prog_1_method_43_code
def yX0_purge : MethodName := ⟨RX0, "purge", "(I)I"⟩
def dkwX0_purge_2 : List UInt8 := [192, 1, 50, 180, 1, 82, 5, 159, 255, 234, 45, 185, 1, 76, 1, 0, 132, 2, 1, 167, 255, 222, 28, 172]
abbrev dktX0_purge_2 : List UInt8 := dkwX0_purge_2 ++ []
def dkwX0_purge_1 : List UInt8 := [180, 1, 78, 182, 1, 81, 78, 45, 185, 1, 67, 1, 0, 153, 0, 31, 45, 185, 1, 72, 1, 0]
abbrev dktX0_purge_1 : List UInt8 := dkwX0_purge_1 ++ dktX0_purge_2
def dkwX0_purge_0 : List UInt8 := [42, 27, 182, 0, 236, 154, 0, 10, 42, 16, 174, 182, 0, 104, 172, 3, 61, 42, 27, 182, 0, 239]
abbrev dktX0_purge_0 : List UInt8 := dkwX0_purge_0 ++ dktX0_purge_1
theorem dksX0_purge_0 : cX0_purge.data.toList.drop 0 = dktX0_purge_0 := by decide +kernel
theorem dksX0_purge_1 : cX0_purge.data.toList.drop 22 = dktX0_purge_1 := dk_seg dksX0_purge_0 22 rfl rfl
theorem dksX0_purge_2 : cX0_purge.data.toList.drop 44 = dktX0_purge_2 := dk_seg dksX0_purge_1 22 rfl rfl
theorem dX0_purge_0 : decode cX0_purge 0 = .ok (.aload_n 0, 1) := dk_42 (dk_at dksX0_purge_0 0 rfl rfl)
theorem dX0_purge_1 : decode cX0_purge 1 = .ok (.iload_n 1, 1) := dk_27 (dk_at dksX0_purge_0 1 rfl rfl)
theorem dX0_purge_2 : decode cX0_purge 2 = .ok (.invokevirtual 236, 3) := dk_182 0 236 (dk_at dksX0_purge_0 2 rfl rfl)
theorem dX0_purge_5 : decode cX0_purge 5 = .ok (.ifCond .ne 10, 3) := dk_154 0 10 (dk_at dksX0_purge_0 5 rfl rfl)
theorem dX0_purge_8 : decode cX0_purge 8 = .ok (.aload_n 0, 1) := dk_42 (dk_at dksX0_purge_0 8 rfl rfl)
theorem dX0_purge_9 : decode cX0_purge 9 = .ok (.bipush (-82), 2) := dk_16 174 (dk_at dksX0_purge_0 9 rfl rfl)
theorem dX0_purge_11 : decode cX0_purge 11 = .ok (.invokevirtual 104, 3) := dk_182 0 104 (dk_at dksX0_purge_0 11 rfl rfl)
theorem dX0_purge_14 : decode cX0_purge 14 = .ok (.ireturn, 1) := dk_172 (dk_at dksX0_purge_0 14 rfl rfl)
theorem dX0_purge_15 : decode cX0_purge 15 = .ok (.iconst 0, 1) := dk_3 (dk_at dksX0_purge_0 15 rfl rfl)
theorem dX0_purge_16 : decode cX0_purge 16 = .ok (.istore_n 2, 1) := dk_61 (dk_at dksX0_purge_0 16 rfl rfl)
theorem dX0_purge_17 : decode cX0_purge 17 = .ok (.aload_n 0, 1) := dk_42 (dk_at dksX0_purge_0 17 rfl rfl)
theorem dX0_purge_18 : decode cX0_purge 18 = .ok (.iload_n 1, 1) := dk_27 (dk_at dksX0_purge_0 18 rfl rfl)
theorem dX0_purge_19 : decode cX0_purge 19 = .ok (.invokevirtual 239, 3) := dk_182 0 239 (dk_at dksX0_purge_0 19 rfl rfl)
theorem dX0_purge_22 : decode cX0_purge 22 = .ok (.getfield 334, 3) := dk_180 1 78 (dk_at dksX0_purge_1 0 rfl rfl)
theorem dX0_purge_25 : decode cX0_purge 25 = .ok (.invokevirtual 337, 3) := dk_182 1 81 (dk_at dksX0_purge_1 3 rfl rfl)
theorem dX0_purge_28 : decode cX0_purge 28 = .ok (.astore_n 3, 1) := dk_78 (dk_at dksX0_purge_1 6 rfl rfl)
theorem dX0_purge_29 : decode cX0_purge 29 = .ok (.aload_n 3, 1) := dk_45 (dk_at dksX0_purge_1 7 rfl rfl)
theorem dX0_purge_30 : decode cX0_purge 30 = .ok (.invokeinterface 323 1, 5) := by decide +kernel
theorem dX0_purge_35 : decode cX0_purge 35 = .ok (.ifCond .eq 31, 3) := dk_153 0 31 (dk_at dksX0_purge_1 13 rfl rfl)
theorem dX0_purge_38 : decode cX0_purge 38 = .ok (.aload_n 3, 1) := dk_45 (dk_at dksX0_purge_1 16 rfl rfl)
theorem dX0_purge_39 : decode cX0_purge 39 = .ok (.invokeinterface 328 1, 5) := by decide +kernel
theorem dX0_purge_44 : decode cX0_purge 44 = .ok (.checkcast 306, 3) := dk_192 1 50 (dk_at dksX0_purge_2 0 rfl rfl)
theorem dX0_purge_47 : decode cX0_purge 47 = .ok (.getfield 338, 3) := dk_180 1 82 (dk_at dksX0_purge_2 3 rfl rfl)
theorem dX0_purge_50 : decode cX0_purge 50 = .ok (.iconst 2, 1) := dk_5 (dk_at dksX0_purge_2 6 rfl rfl)
theorem dX0_purge_51 : decode cX0_purge 51 = .ok (.if_icmp .eq (-22), 3) := dk_159 255 234 (dk_at dksX0_purge_2 7 rfl rfl)
theorem dX0_purge_54 : decode cX0_purge 54 = .ok (.aload_n 3, 1) := dk_45 (dk_at dksX0_purge_2 10 rfl rfl)
theorem dX0_purge_55 : decode cX0_purge 55 = .ok (.invokeinterface 332 1, 5) := by decide +kernel
theorem dX0_purge_60 : decode cX0_purge 60 = .ok (.iinc 2 1, 3) := dk_132 2 1 (dk_at dksX0_purge_2 16 rfl rfl)
theorem dX0_purge_63 : decode cX0_purge 63 = .ok (.goto (-34), 3) := dk_167 255 222 (dk_at dksX0_purge_2 19 rfl rfl)
theorem dX0_purge_66 : decode cX0_purge 66 = .ok (.iload_n 2, 1) := dk_28 (dk_at dksX0_purge_2 22 rfl rfl)
theorem dX0_purge_67 : decode cX0_purge 67 = .ok (.ireturn, 1) := dk_172 (dk_at dksX0_purge_2 23 rfl rfl)
abbrev cX0_queueOf : ByteArray := prog_1_method_45_code
def yX0_queueOf : MethodName := ⟨RX0, "queueOf", "(II)I"⟩
def dkwX0_queueOf_6 : List UInt8 := [167, 0, 14, 45, 180, 1, 103, 167, 0, 7, 45, 180, 1, 106, 172]
abbrev dktX0_queueOf_6 : List UInt8 := dkwX0_queueOf_6 ++ []
def dkwX0_queueOf_5 : List UInt8 := [167, 0, 36, 45, 180, 0, 243, 153, 0, 7, 4, 167, 0, 25, 3, 167, 0, 21, 45, 180, 1, 100]
abbrev dktX0_queueOf_5 : List UInt8 := dkwX0_queueOf_5 ++ dktX0_queueOf_6
def dkwX0_queueOf_4 : List UInt8 := [182, 1, 89, 182, 1, 93, 167, 0, 54, 42, 27, 3, 182, 1, 96, 167, 0, 45, 42, 27, 4, 182, 1, 96]
abbrev dktX0_queueOf_4 : List UInt8 := dkwX0_queueOf_4 ++ dktX0_queueOf_5
def dkwX0_queueOf_3 : List UInt8 := [45, 180, 1, 78, 182, 0, 47, 167, 0, 77, 45, 28, 186, 1, 86, 0, 0, 182, 1, 21, 167, 0, 64, 45]
abbrev dktX0_queueOf_3 : List UInt8 := dkwX0_queueOf_3 ++ dktX0_queueOf_4
def dkwX0_queueOf_2 : List UInt8 := [170, 0, 0, 0, 0, 0, 0, 136, 0, 0, 0, 0, 0, 0, 0, 9, 0, 0, 0, 56, 0, 0, 0, 66, 0, 0, 0, 66, 0, 0, 0, 66, 0, 0, 0, 79, 0, 0, 0, 89, 0, 0, 0, 98, 0, 0, 0, 107, 0, 0, 0, 122, 0, 0, 0, 129]
abbrev dktX0_queueOf_2 : List UInt8 := dkwX0_queueOf_2 ++ dktX0_queueOf_3
def dkwX0_queueOf_1 : List UInt8 := [172, 42, 27, 182, 0, 239, 78, 28]
abbrev dktX0_queueOf_1 : List UInt8 := dkwX0_queueOf_1 ++ dktX0_queueOf_2
def dkwX0_queueOf_0 : List UInt8 := [42, 27, 182, 0, 236, 153, 0, 13, 28, 3, 16, 10, 184, 0, 39, 154, 0, 10, 42, 16, 174, 182, 0, 104]
abbrev dktX0_queueOf_0 : List UInt8 := dkwX0_queueOf_0 ++ dktX0_queueOf_1
theorem dksX0_queueOf_0 : cX0_queueOf.data.toList.drop 0 = dktX0_queueOf_0 := by decide +kernel
theorem dksX0_queueOf_1 : cX0_queueOf.data.toList.drop 24 = dktX0_queueOf_1 := dk_seg dksX0_queueOf_0 24 rfl rfl
theorem dksX0_queueOf_2 : cX0_queueOf.data.toList.drop 32 = dktX0_queueOf_2 := dk_seg dksX0_queueOf_1 8 rfl rfl
theorem dksX0_queueOf_3 : cX0_queueOf.data.toList.drop 88 = dktX0_queueOf_3 := dk_seg dksX0_queueOf_2 56 rfl rfl
theorem dksX0_queueOf_4 : cX0_queueOf.data.toList.drop 112 = dktX0_queueOf_4 := dk_seg dksX0_queueOf_3 24 rfl rfl
theorem dksX0_queueOf_5 : cX0_queueOf.data.toList.drop 136 = dktX0_queueOf_5 := dk_seg dksX0_queueOf_4 24 rfl rfl
theorem dksX0_queueOf_6 : cX0_queueOf.data.toList.drop 158 = dktX0_queueOf_6 := dk_seg dksX0_queueOf_5 22 rfl rfl
theorem dX0_queueOf_0 : decode cX0_queueOf 0 = .ok (.aload_n 0, 1) := dk_42 (dk_at dksX0_queueOf_0 0 rfl rfl)
theorem dX0_queueOf_1 : decode cX0_queueOf 1 = .ok (.iload_n 1, 1) := dk_27 (dk_at dksX0_queueOf_0 1 rfl rfl)
theorem dX0_queueOf_2 : decode cX0_queueOf 2 = .ok (.invokevirtual 236, 3) := dk_182 0 236 (dk_at dksX0_queueOf_0 2 rfl rfl)
theorem dX0_queueOf_5 : decode cX0_queueOf 5 = .ok (.ifCond .eq 13, 3) := dk_153 0 13 (dk_at dksX0_queueOf_0 5 rfl rfl)
theorem dX0_queueOf_8 : decode cX0_queueOf 8 = .ok (.iload_n 2, 1) := dk_28 (dk_at dksX0_queueOf_0 8 rfl rfl)
theorem dX0_queueOf_9 : decode cX0_queueOf 9 = .ok (.iconst 0, 1) := dk_3 (dk_at dksX0_queueOf_0 9 rfl rfl)
theorem dX0_queueOf_10 : decode cX0_queueOf 10 = .ok (.bipush 10, 2) := dk_16 10 (dk_at dksX0_queueOf_0 10 rfl rfl)
theorem dX0_queueOf_12 : decode cX0_queueOf 12 = .ok (.invokestatic 39, 3) := dk_184 0 39 (dk_at dksX0_queueOf_0 12 rfl rfl)
theorem dX0_queueOf_15 : decode cX0_queueOf 15 = .ok (.ifCond .ne 10, 3) := dk_154 0 10 (dk_at dksX0_queueOf_0 15 rfl rfl)
theorem dX0_queueOf_18 : decode cX0_queueOf 18 = .ok (.aload_n 0, 1) := dk_42 (dk_at dksX0_queueOf_0 18 rfl rfl)
theorem dX0_queueOf_19 : decode cX0_queueOf 19 = .ok (.bipush (-82), 2) := dk_16 174 (dk_at dksX0_queueOf_0 19 rfl rfl)
theorem dX0_queueOf_21 : decode cX0_queueOf 21 = .ok (.invokevirtual 104, 3) := dk_182 0 104 (dk_at dksX0_queueOf_0 21 rfl rfl)
theorem dX0_queueOf_24 : decode cX0_queueOf 24 = .ok (.ireturn, 1) := dk_172 (dk_at dksX0_queueOf_1 0 rfl rfl)
theorem dX0_queueOf_25 : decode cX0_queueOf 25 = .ok (.aload_n 0, 1) := dk_42 (dk_at dksX0_queueOf_1 1 rfl rfl)
theorem dX0_queueOf_26 : decode cX0_queueOf 26 = .ok (.iload_n 1, 1) := dk_27 (dk_at dksX0_queueOf_1 2 rfl rfl)
theorem dX0_queueOf_27 : decode cX0_queueOf 27 = .ok (.invokevirtual 239, 3) := dk_182 0 239 (dk_at dksX0_queueOf_1 3 rfl rfl)
theorem dX0_queueOf_30 : decode cX0_queueOf 30 = .ok (.astore_n 3, 1) := dk_78 (dk_at dksX0_queueOf_1 6 rfl rfl)
theorem dX0_queueOf_31 : decode cX0_queueOf 31 = .ok (.iload_n 2, 1) := dk_28 (dk_at dksX0_queueOf_1 7 rfl rfl)
theorem dX0_queueOf_32 : decode cX0_queueOf 32 = .ok (.tableswitch 136 0 9 #[56, 66, 66, 66, 79, 89, 98, 107, 122, 129], 56) := by decide +kernel
theorem dX0_queueOf_88 : decode cX0_queueOf 88 = .ok (.aload_n 3, 1) := dk_45 (dk_at dksX0_queueOf_3 0 rfl rfl)
theorem dX0_queueOf_89 : decode cX0_queueOf 89 = .ok (.getfield 334, 3) := dk_180 1 78 (dk_at dksX0_queueOf_3 1 rfl rfl)
theorem dX0_queueOf_92 : decode cX0_queueOf 92 = .ok (.invokevirtual 47, 3) := dk_182 0 47 (dk_at dksX0_queueOf_3 4 rfl rfl)
theorem dX0_queueOf_95 : decode cX0_queueOf 95 = .ok (.goto 77, 3) := dk_167 0 77 (dk_at dksX0_queueOf_3 7 rfl rfl)
theorem dX0_queueOf_98 : decode cX0_queueOf 98 = .ok (.aload_n 3, 1) := dk_45 (dk_at dksX0_queueOf_3 10 rfl rfl)
theorem dX0_queueOf_99 : decode cX0_queueOf 99 = .ok (.iload_n 2, 1) := dk_28 (dk_at dksX0_queueOf_3 11 rfl rfl)
theorem dX0_queueOf_100 : decode cX0_queueOf 100 = .ok (.invokedynamic 342, 5) := by decide +kernel
theorem dX0_queueOf_105 : decode cX0_queueOf 105 = .ok (.invokevirtual 277, 3) := dk_182 1 21 (dk_at dksX0_queueOf_3 17 rfl rfl)
theorem dX0_queueOf_108 : decode cX0_queueOf 108 = .ok (.goto 64, 3) := dk_167 0 64 (dk_at dksX0_queueOf_3 20 rfl rfl)
theorem dX0_queueOf_111 : decode cX0_queueOf 111 = .ok (.aload_n 3, 1) := dk_45 (dk_at dksX0_queueOf_3 23 rfl rfl)
theorem dX0_queueOf_112 : decode cX0_queueOf 112 = .ok (.invokevirtual 345, 3) := dk_182 1 89 (dk_at dksX0_queueOf_4 0 rfl rfl)
theorem dX0_queueOf_115 : decode cX0_queueOf 115 = .ok (.invokevirtual 349, 3) := dk_182 1 93 (dk_at dksX0_queueOf_4 3 rfl rfl)
theorem dX0_queueOf_118 : decode cX0_queueOf 118 = .ok (.goto 54, 3) := dk_167 0 54 (dk_at dksX0_queueOf_4 6 rfl rfl)
theorem dX0_queueOf_121 : decode cX0_queueOf 121 = .ok (.aload_n 0, 1) := dk_42 (dk_at dksX0_queueOf_4 9 rfl rfl)
theorem dX0_queueOf_122 : decode cX0_queueOf 122 = .ok (.iload_n 1, 1) := dk_27 (dk_at dksX0_queueOf_4 10 rfl rfl)
theorem dX0_queueOf_123 : decode cX0_queueOf 123 = .ok (.iconst 0, 1) := dk_3 (dk_at dksX0_queueOf_4 11 rfl rfl)
theorem dX0_queueOf_124 : decode cX0_queueOf 124 = .ok (.invokevirtual 352, 3) := dk_182 1 96 (dk_at dksX0_queueOf_4 12 rfl rfl)
theorem dX0_queueOf_127 : decode cX0_queueOf 127 = .ok (.goto 45, 3) := dk_167 0 45 (dk_at dksX0_queueOf_4 15 rfl rfl)
theorem dX0_queueOf_130 : decode cX0_queueOf 130 = .ok (.aload_n 0, 1) := dk_42 (dk_at dksX0_queueOf_4 18 rfl rfl)
theorem dX0_queueOf_131 : decode cX0_queueOf 131 = .ok (.iload_n 1, 1) := dk_27 (dk_at dksX0_queueOf_4 19 rfl rfl)
theorem dX0_queueOf_132 : decode cX0_queueOf 132 = .ok (.iconst 1, 1) := dk_4 (dk_at dksX0_queueOf_4 20 rfl rfl)
theorem dX0_queueOf_133 : decode cX0_queueOf 133 = .ok (.invokevirtual 352, 3) := dk_182 1 96 (dk_at dksX0_queueOf_4 21 rfl rfl)
theorem dX0_queueOf_136 : decode cX0_queueOf 136 = .ok (.goto 36, 3) := dk_167 0 36 (dk_at dksX0_queueOf_5 0 rfl rfl)
theorem dX0_queueOf_139 : decode cX0_queueOf 139 = .ok (.aload_n 3, 1) := dk_45 (dk_at dksX0_queueOf_5 3 rfl rfl)
theorem dX0_queueOf_140 : decode cX0_queueOf 140 = .ok (.getfield 243, 3) := dk_180 0 243 (dk_at dksX0_queueOf_5 4 rfl rfl)
theorem dX0_queueOf_143 : decode cX0_queueOf 143 = .ok (.ifCond .eq 7, 3) := dk_153 0 7 (dk_at dksX0_queueOf_5 7 rfl rfl)
theorem dX0_queueOf_146 : decode cX0_queueOf 146 = .ok (.iconst 1, 1) := dk_4 (dk_at dksX0_queueOf_5 10 rfl rfl)
theorem dX0_queueOf_147 : decode cX0_queueOf 147 = .ok (.goto 25, 3) := dk_167 0 25 (dk_at dksX0_queueOf_5 11 rfl rfl)
theorem dX0_queueOf_150 : decode cX0_queueOf 150 = .ok (.iconst 0, 1) := dk_3 (dk_at dksX0_queueOf_5 14 rfl rfl)
theorem dX0_queueOf_151 : decode cX0_queueOf 151 = .ok (.goto 21, 3) := dk_167 0 21 (dk_at dksX0_queueOf_5 15 rfl rfl)
theorem dX0_queueOf_154 : decode cX0_queueOf 154 = .ok (.aload_n 3, 1) := dk_45 (dk_at dksX0_queueOf_5 18 rfl rfl)
theorem dX0_queueOf_155 : decode cX0_queueOf 155 = .ok (.getfield 356, 3) := dk_180 1 100 (dk_at dksX0_queueOf_5 19 rfl rfl)
theorem dX0_queueOf_158 : decode cX0_queueOf 158 = .ok (.goto 14, 3) := dk_167 0 14 (dk_at dksX0_queueOf_6 0 rfl rfl)
theorem dX0_queueOf_161 : decode cX0_queueOf 161 = .ok (.aload_n 3, 1) := dk_45 (dk_at dksX0_queueOf_6 3 rfl rfl)
theorem dX0_queueOf_162 : decode cX0_queueOf 162 = .ok (.getfield 359, 3) := dk_180 1 103 (dk_at dksX0_queueOf_6 4 rfl rfl)
theorem dX0_queueOf_165 : decode cX0_queueOf 165 = .ok (.goto 7, 3) := dk_167 0 7 (dk_at dksX0_queueOf_6 7 rfl rfl)
theorem dX0_queueOf_168 : decode cX0_queueOf 168 = .ok (.aload_n 3, 1) := dk_45 (dk_at dksX0_queueOf_6 10 rfl rfl)
theorem dX0_queueOf_169 : decode cX0_queueOf 169 = .ok (.getfield 362, 3) := dk_180 1 106 (dk_at dksX0_queueOf_6 11 rfl rfl)
theorem dX0_queueOf_172 : decode cX0_queueOf 172 = .ok (.ireturn, 1) := dk_172 (dk_at dksX0_queueOf_6 14 rfl rfl)
abbrev cX0_lambda_queueOf_1 : ByteArray := prog_1_method_76_code
def yX0_lambda_queueOf_1 : MethodName := ⟨RX0, "lambda$queueOf$1", "(ILCreditBroker$Letter;)Z"⟩
def dkwX0_lambda_queueOf_1_0 : List UInt8 := [43, 180, 1, 82, 26, 4, 100, 160, 0, 7, 4, 167, 0, 4, 3, 172]
abbrev dktX0_lambda_queueOf_1_0 : List UInt8 := dkwX0_lambda_queueOf_1_0 ++ []
theorem dksX0_lambda_queueOf_1_0 : cX0_lambda_queueOf_1.data.toList.drop 0 = dktX0_lambda_queueOf_1_0 := by decide +kernel
theorem dX0_lambda_queueOf_1_0 : decode cX0_lambda_queueOf_1 0 = .ok (.aload_n 1, 1) := dk_43 (dk_at dksX0_lambda_queueOf_1_0 0 rfl rfl)
theorem dX0_lambda_queueOf_1_1 : decode cX0_lambda_queueOf_1 1 = .ok (.getfield 338, 3) := dk_180 1 82 (dk_at dksX0_lambda_queueOf_1_0 1 rfl rfl)
theorem dX0_lambda_queueOf_1_4 : decode cX0_lambda_queueOf_1 4 = .ok (.iload_n 0, 1) := dk_26 (dk_at dksX0_lambda_queueOf_1_0 4 rfl rfl)
theorem dX0_lambda_queueOf_1_5 : decode cX0_lambda_queueOf_1 5 = .ok (.iconst 1, 1) := dk_4 (dk_at dksX0_lambda_queueOf_1_0 5 rfl rfl)
theorem dX0_lambda_queueOf_1_6 : decode cX0_lambda_queueOf_1 6 = .ok (.isub, 1) := dk_100 (dk_at dksX0_lambda_queueOf_1_0 6 rfl rfl)
theorem dX0_lambda_queueOf_1_7 : decode cX0_lambda_queueOf_1 7 = .ok (.if_icmp .ne 7, 3) := dk_160 0 7 (dk_at dksX0_lambda_queueOf_1_0 7 rfl rfl)
theorem dX0_lambda_queueOf_1_10 : decode cX0_lambda_queueOf_1 10 = .ok (.iconst 1, 1) := dk_4 (dk_at dksX0_lambda_queueOf_1_0 10 rfl rfl)
theorem dX0_lambda_queueOf_1_11 : decode cX0_lambda_queueOf_1 11 = .ok (.goto 4, 3) := dk_167 0 4 (dk_at dksX0_lambda_queueOf_1_0 11 rfl rfl)
theorem dX0_lambda_queueOf_1_14 : decode cX0_lambda_queueOf_1 14 = .ok (.iconst 0, 1) := dk_3 (dk_at dksX0_lambda_queueOf_1_0 14 rfl rfl)
theorem dX0_lambda_queueOf_1_15 : decode cX0_lambda_queueOf_1 15 = .ok (.ireturn, 1) := dk_172 (dk_at dksX0_lambda_queueOf_1_0 15 rfl rfl)
abbrev cX0_consumersOf : ByteArray := prog_1_method_44_code
def yX0_consumersOf : MethodName := ⟨RX0, "consumersOf", "(IZ)I"⟩
def dkwX0_consumersOf_3 : List UInt8 := [25, 5, 180, 1, 0, 167, 0, 8, 4, 167, 0, 4, 3, 96, 62, 167, 255, 185, 29, 172]
abbrev dktX0_consumersOf_3 : List UInt8 := dkwX0_consumersOf_3 ++ []
def dkwX0_consumersOf_2 : List UInt8 := [180, 0, 65, 154, 0, 7, 4, 167, 0, 4, 3, 54, 6, 29, 21, 6, 153, 0, 19, 28, 153, 0, 11]
abbrev dktX0_consumersOf_2 : List UInt8 := dkwX0_consumersOf_2 ++ dktX0_consumersOf_3
def dkwX0_consumersOf_1 : List UInt8 := [25, 4, 185, 1, 72, 1, 0, 192, 0, 63, 58, 5, 25, 5, 180, 1, 85, 27, 160, 0, 15, 25, 5]
abbrev dktX0_consumersOf_1 : List UInt8 := dkwX0_consumersOf_1 ++ dktX0_consumersOf_2
def dkwX0_consumersOf_0 : List UInt8 := [3, 62, 42, 180, 0, 16, 180, 0, 52, 182, 1, 81, 58, 4, 25, 4, 185, 1, 67, 1, 0, 153, 0, 67]
abbrev dktX0_consumersOf_0 : List UInt8 := dkwX0_consumersOf_0 ++ dktX0_consumersOf_1
theorem dksX0_consumersOf_0 : cX0_consumersOf.data.toList.drop 0 = dktX0_consumersOf_0 := by decide +kernel
theorem dksX0_consumersOf_1 : cX0_consumersOf.data.toList.drop 24 = dktX0_consumersOf_1 := dk_seg dksX0_consumersOf_0 24 rfl rfl
theorem dksX0_consumersOf_2 : cX0_consumersOf.data.toList.drop 47 = dktX0_consumersOf_2 := dk_seg dksX0_consumersOf_1 23 rfl rfl
theorem dksX0_consumersOf_3 : cX0_consumersOf.data.toList.drop 70 = dktX0_consumersOf_3 := dk_seg dksX0_consumersOf_2 23 rfl rfl
theorem dX0_consumersOf_0 : decode cX0_consumersOf 0 = .ok (.iconst 0, 1) := dk_3 (dk_at dksX0_consumersOf_0 0 rfl rfl)
theorem dX0_consumersOf_1 : decode cX0_consumersOf 1 = .ok (.istore_n 3, 1) := dk_62 (dk_at dksX0_consumersOf_0 1 rfl rfl)
theorem dX0_consumersOf_2 : decode cX0_consumersOf 2 = .ok (.aload_n 0, 1) := dk_42 (dk_at dksX0_consumersOf_0 2 rfl rfl)
theorem dX0_consumersOf_3 : decode cX0_consumersOf 3 = .ok (.getfield 16, 3) := dk_180 0 16 (dk_at dksX0_consumersOf_0 3 rfl rfl)
theorem dX0_consumersOf_6 : decode cX0_consumersOf 6 = .ok (.getfield 52, 3) := dk_180 0 52 (dk_at dksX0_consumersOf_0 6 rfl rfl)
theorem dX0_consumersOf_9 : decode cX0_consumersOf 9 = .ok (.invokevirtual 337, 3) := dk_182 1 81 (dk_at dksX0_consumersOf_0 9 rfl rfl)
theorem dX0_consumersOf_12 : decode cX0_consumersOf 12 = .ok (.astore 4, 2) := dk_58 4 (dk_at dksX0_consumersOf_0 12 rfl rfl)
theorem dX0_consumersOf_14 : decode cX0_consumersOf 14 = .ok (.aload 4, 2) := dk_25 4 (dk_at dksX0_consumersOf_0 14 rfl rfl)
theorem dX0_consumersOf_16 : decode cX0_consumersOf 16 = .ok (.invokeinterface 323 1, 5) := by decide +kernel
theorem dX0_consumersOf_21 : decode cX0_consumersOf 21 = .ok (.ifCond .eq 67, 3) := dk_153 0 67 (dk_at dksX0_consumersOf_0 21 rfl rfl)
theorem dX0_consumersOf_24 : decode cX0_consumersOf 24 = .ok (.aload 4, 2) := dk_25 4 (dk_at dksX0_consumersOf_1 0 rfl rfl)
theorem dX0_consumersOf_26 : decode cX0_consumersOf 26 = .ok (.invokeinterface 328 1, 5) := by decide +kernel
theorem dX0_consumersOf_31 : decode cX0_consumersOf 31 = .ok (.checkcast 63, 3) := dk_192 0 63 (dk_at dksX0_consumersOf_1 7 rfl rfl)
theorem dX0_consumersOf_34 : decode cX0_consumersOf 34 = .ok (.astore 5, 2) := dk_58 5 (dk_at dksX0_consumersOf_1 10 rfl rfl)
theorem dX0_consumersOf_36 : decode cX0_consumersOf 36 = .ok (.aload 5, 2) := dk_25 5 (dk_at dksX0_consumersOf_1 12 rfl rfl)
theorem dX0_consumersOf_38 : decode cX0_consumersOf 38 = .ok (.getfield 341, 3) := dk_180 1 85 (dk_at dksX0_consumersOf_1 14 rfl rfl)
theorem dX0_consumersOf_41 : decode cX0_consumersOf 41 = .ok (.iload_n 1, 1) := dk_27 (dk_at dksX0_consumersOf_1 17 rfl rfl)
theorem dX0_consumersOf_42 : decode cX0_consumersOf 42 = .ok (.if_icmp .ne 15, 3) := dk_160 0 15 (dk_at dksX0_consumersOf_1 18 rfl rfl)
theorem dX0_consumersOf_45 : decode cX0_consumersOf 45 = .ok (.aload 5, 2) := dk_25 5 (dk_at dksX0_consumersOf_1 21 rfl rfl)
theorem dX0_consumersOf_47 : decode cX0_consumersOf 47 = .ok (.getfield 65, 3) := dk_180 0 65 (dk_at dksX0_consumersOf_2 0 rfl rfl)
theorem dX0_consumersOf_50 : decode cX0_consumersOf 50 = .ok (.ifCond .ne 7, 3) := dk_154 0 7 (dk_at dksX0_consumersOf_2 3 rfl rfl)
theorem dX0_consumersOf_53 : decode cX0_consumersOf 53 = .ok (.iconst 1, 1) := dk_4 (dk_at dksX0_consumersOf_2 6 rfl rfl)
theorem dX0_consumersOf_54 : decode cX0_consumersOf 54 = .ok (.goto 4, 3) := dk_167 0 4 (dk_at dksX0_consumersOf_2 7 rfl rfl)
theorem dX0_consumersOf_57 : decode cX0_consumersOf 57 = .ok (.iconst 0, 1) := dk_3 (dk_at dksX0_consumersOf_2 10 rfl rfl)
theorem dX0_consumersOf_58 : decode cX0_consumersOf 58 = .ok (.istore 6, 2) := dk_54 6 (dk_at dksX0_consumersOf_2 11 rfl rfl)
theorem dX0_consumersOf_60 : decode cX0_consumersOf 60 = .ok (.iload_n 3, 1) := dk_29 (dk_at dksX0_consumersOf_2 13 rfl rfl)
theorem dX0_consumersOf_61 : decode cX0_consumersOf 61 = .ok (.iload 6, 2) := dk_21 6 (dk_at dksX0_consumersOf_2 14 rfl rfl)
theorem dX0_consumersOf_63 : decode cX0_consumersOf 63 = .ok (.ifCond .eq 19, 3) := dk_153 0 19 (dk_at dksX0_consumersOf_2 16 rfl rfl)
theorem dX0_consumersOf_66 : decode cX0_consumersOf 66 = .ok (.iload_n 2, 1) := dk_28 (dk_at dksX0_consumersOf_2 19 rfl rfl)
theorem dX0_consumersOf_67 : decode cX0_consumersOf 67 = .ok (.ifCond .eq 11, 3) := dk_153 0 11 (dk_at dksX0_consumersOf_2 20 rfl rfl)
theorem dX0_consumersOf_70 : decode cX0_consumersOf 70 = .ok (.aload 5, 2) := dk_25 5 (dk_at dksX0_consumersOf_3 0 rfl rfl)
theorem dX0_consumersOf_72 : decode cX0_consumersOf 72 = .ok (.getfield 256, 3) := dk_180 1 0 (dk_at dksX0_consumersOf_3 2 rfl rfl)
theorem dX0_consumersOf_75 : decode cX0_consumersOf 75 = .ok (.goto 8, 3) := dk_167 0 8 (dk_at dksX0_consumersOf_3 5 rfl rfl)
theorem dX0_consumersOf_78 : decode cX0_consumersOf 78 = .ok (.iconst 1, 1) := dk_4 (dk_at dksX0_consumersOf_3 8 rfl rfl)
theorem dX0_consumersOf_79 : decode cX0_consumersOf 79 = .ok (.goto 4, 3) := dk_167 0 4 (dk_at dksX0_consumersOf_3 9 rfl rfl)
theorem dX0_consumersOf_82 : decode cX0_consumersOf 82 = .ok (.iconst 0, 1) := dk_3 (dk_at dksX0_consumersOf_3 12 rfl rfl)
theorem dX0_consumersOf_83 : decode cX0_consumersOf 83 = .ok (.iadd, 1) := dk_96 (dk_at dksX0_consumersOf_3 13 rfl rfl)
theorem dX0_consumersOf_84 : decode cX0_consumersOf 84 = .ok (.istore_n 3, 1) := dk_62 (dk_at dksX0_consumersOf_3 14 rfl rfl)
theorem dX0_consumersOf_85 : decode cX0_consumersOf 85 = .ok (.goto (-71), 3) := dk_167 255 185 (dk_at dksX0_consumersOf_3 15 rfl rfl)
theorem dX0_consumersOf_88 : decode cX0_consumersOf 88 = .ok (.iload_n 3, 1) := dk_29 (dk_at dksX0_consumersOf_3 18 rfl rfl)
theorem dX0_consumersOf_89 : decode cX0_consumersOf 89 = .ok (.ireturn, 1) := dk_172 (dk_at dksX0_consumersOf_3 19 rfl rfl)
abbrev cX0_letter : ByteArray := prog_1_method_46_code
def yX0_letter : MethodName := ⟨RX0, "letter", "(III)I"⟩
def dkwX0_letter_5 : List UInt8 := [167, 0, 16, 25, 4, 180, 1, 116, 167, 0, 8, 25, 4, 180, 1, 119, 172]
abbrev dktX0_letter_5 : List UInt8 := dkwX0_letter_5 ++ []
def dkwX0_letter_4 : List UInt8 := [25, 4, 180, 1, 109, 180, 1, 110, 167, 0, 32, 25, 4, 180, 1, 82, 167, 0, 24, 25, 4, 180, 1, 115]
abbrev dktX0_letter_4 : List UInt8 := dkwX0_letter_4 ++ dktX0_letter_5
def dkwX0_letter_3 : List UInt8 := [170, 0, 0, 0, 64, 0, 0, 0, 0, 0, 0, 0, 3, 0, 0, 0, 29, 0, 0, 0, 40, 0, 0, 0, 48, 0, 0, 0, 56]
abbrev dktX0_letter_3 : List UInt8 := dkwX0_letter_3 ++ dktX0_letter_4
def dkwX0_letter_2 : List UInt8 := [182, 0, 239, 180, 1, 78, 28, 182, 0, 59, 192, 1, 50, 58, 4, 29]
abbrev dktX0_letter_2 : List UInt8 := dkwX0_letter_2 ++ dktX0_letter_3
def dkwX0_letter_1 : List UInt8 := [180, 1, 78, 182, 0, 47, 4, 100, 184, 0, 39, 154, 0, 10, 42, 16, 174, 182, 0, 104, 172, 42, 27]
abbrev dktX0_letter_1 : List UInt8 := dkwX0_letter_1 ++ dktX0_letter_2
def dkwX0_letter_0 : List UInt8 := [42, 27, 182, 0, 236, 153, 0, 33, 29, 3, 7, 184, 0, 39, 153, 0, 24, 28, 3, 42, 27, 182, 0, 239]
abbrev dktX0_letter_0 : List UInt8 := dkwX0_letter_0 ++ dktX0_letter_1
theorem dksX0_letter_0 : cX0_letter.data.toList.drop 0 = dktX0_letter_0 := by decide +kernel
theorem dksX0_letter_1 : cX0_letter.data.toList.drop 24 = dktX0_letter_1 := dk_seg dksX0_letter_0 24 rfl rfl
theorem dksX0_letter_2 : cX0_letter.data.toList.drop 47 = dktX0_letter_2 := dk_seg dksX0_letter_1 23 rfl rfl
theorem dksX0_letter_3 : cX0_letter.data.toList.drop 63 = dktX0_letter_3 := dk_seg dksX0_letter_2 16 rfl rfl
theorem dksX0_letter_4 : cX0_letter.data.toList.drop 92 = dktX0_letter_4 := dk_seg dksX0_letter_3 29 rfl rfl
theorem dksX0_letter_5 : cX0_letter.data.toList.drop 116 = dktX0_letter_5 := dk_seg dksX0_letter_4 24 rfl rfl
theorem dX0_letter_0 : decode cX0_letter 0 = .ok (.aload_n 0, 1) := dk_42 (dk_at dksX0_letter_0 0 rfl rfl)
theorem dX0_letter_1 : decode cX0_letter 1 = .ok (.iload_n 1, 1) := dk_27 (dk_at dksX0_letter_0 1 rfl rfl)
theorem dX0_letter_2 : decode cX0_letter 2 = .ok (.invokevirtual 236, 3) := dk_182 0 236 (dk_at dksX0_letter_0 2 rfl rfl)
theorem dX0_letter_5 : decode cX0_letter 5 = .ok (.ifCond .eq 33, 3) := dk_153 0 33 (dk_at dksX0_letter_0 5 rfl rfl)
theorem dX0_letter_8 : decode cX0_letter 8 = .ok (.iload_n 3, 1) := dk_29 (dk_at dksX0_letter_0 8 rfl rfl)
theorem dX0_letter_9 : decode cX0_letter 9 = .ok (.iconst 0, 1) := dk_3 (dk_at dksX0_letter_0 9 rfl rfl)
theorem dX0_letter_10 : decode cX0_letter 10 = .ok (.iconst 4, 1) := dk_7 (dk_at dksX0_letter_0 10 rfl rfl)
theorem dX0_letter_11 : decode cX0_letter 11 = .ok (.invokestatic 39, 3) := dk_184 0 39 (dk_at dksX0_letter_0 11 rfl rfl)
theorem dX0_letter_14 : decode cX0_letter 14 = .ok (.ifCond .eq 24, 3) := dk_153 0 24 (dk_at dksX0_letter_0 14 rfl rfl)
theorem dX0_letter_17 : decode cX0_letter 17 = .ok (.iload_n 2, 1) := dk_28 (dk_at dksX0_letter_0 17 rfl rfl)
theorem dX0_letter_18 : decode cX0_letter 18 = .ok (.iconst 0, 1) := dk_3 (dk_at dksX0_letter_0 18 rfl rfl)
theorem dX0_letter_19 : decode cX0_letter 19 = .ok (.aload_n 0, 1) := dk_42 (dk_at dksX0_letter_0 19 rfl rfl)
theorem dX0_letter_20 : decode cX0_letter 20 = .ok (.iload_n 1, 1) := dk_27 (dk_at dksX0_letter_0 20 rfl rfl)
theorem dX0_letter_21 : decode cX0_letter 21 = .ok (.invokevirtual 239, 3) := dk_182 0 239 (dk_at dksX0_letter_0 21 rfl rfl)
theorem dX0_letter_24 : decode cX0_letter 24 = .ok (.getfield 334, 3) := dk_180 1 78 (dk_at dksX0_letter_1 0 rfl rfl)
theorem dX0_letter_27 : decode cX0_letter 27 = .ok (.invokevirtual 47, 3) := dk_182 0 47 (dk_at dksX0_letter_1 3 rfl rfl)
theorem dX0_letter_30 : decode cX0_letter 30 = .ok (.iconst 1, 1) := dk_4 (dk_at dksX0_letter_1 6 rfl rfl)
theorem dX0_letter_31 : decode cX0_letter 31 = .ok (.isub, 1) := dk_100 (dk_at dksX0_letter_1 7 rfl rfl)
theorem dX0_letter_32 : decode cX0_letter 32 = .ok (.invokestatic 39, 3) := dk_184 0 39 (dk_at dksX0_letter_1 8 rfl rfl)
theorem dX0_letter_35 : decode cX0_letter 35 = .ok (.ifCond .ne 10, 3) := dk_154 0 10 (dk_at dksX0_letter_1 11 rfl rfl)
theorem dX0_letter_38 : decode cX0_letter 38 = .ok (.aload_n 0, 1) := dk_42 (dk_at dksX0_letter_1 14 rfl rfl)
theorem dX0_letter_39 : decode cX0_letter 39 = .ok (.bipush (-82), 2) := dk_16 174 (dk_at dksX0_letter_1 15 rfl rfl)
theorem dX0_letter_41 : decode cX0_letter 41 = .ok (.invokevirtual 104, 3) := dk_182 0 104 (dk_at dksX0_letter_1 17 rfl rfl)
theorem dX0_letter_44 : decode cX0_letter 44 = .ok (.ireturn, 1) := dk_172 (dk_at dksX0_letter_1 20 rfl rfl)
theorem dX0_letter_45 : decode cX0_letter 45 = .ok (.aload_n 0, 1) := dk_42 (dk_at dksX0_letter_1 21 rfl rfl)
theorem dX0_letter_46 : decode cX0_letter 46 = .ok (.iload_n 1, 1) := dk_27 (dk_at dksX0_letter_1 22 rfl rfl)
theorem dX0_letter_47 : decode cX0_letter 47 = .ok (.invokevirtual 239, 3) := dk_182 0 239 (dk_at dksX0_letter_2 0 rfl rfl)
theorem dX0_letter_50 : decode cX0_letter 50 = .ok (.getfield 334, 3) := dk_180 1 78 (dk_at dksX0_letter_2 3 rfl rfl)
theorem dX0_letter_53 : decode cX0_letter 53 = .ok (.iload_n 2, 1) := dk_28 (dk_at dksX0_letter_2 6 rfl rfl)
theorem dX0_letter_54 : decode cX0_letter 54 = .ok (.invokevirtual 59, 3) := dk_182 0 59 (dk_at dksX0_letter_2 7 rfl rfl)
theorem dX0_letter_57 : decode cX0_letter 57 = .ok (.checkcast 306, 3) := dk_192 1 50 (dk_at dksX0_letter_2 10 rfl rfl)
theorem dX0_letter_60 : decode cX0_letter 60 = .ok (.astore 4, 2) := dk_58 4 (dk_at dksX0_letter_2 13 rfl rfl)
theorem dX0_letter_62 : decode cX0_letter 62 = .ok (.iload_n 3, 1) := dk_29 (dk_at dksX0_letter_2 15 rfl rfl)
theorem dX0_letter_63 : decode cX0_letter 63 = .ok (.tableswitch 64 0 3 #[29, 40, 48, 56], 29) := by decide +kernel
theorem dX0_letter_92 : decode cX0_letter 92 = .ok (.aload 4, 2) := dk_25 4 (dk_at dksX0_letter_4 0 rfl rfl)
theorem dX0_letter_94 : decode cX0_letter 94 = .ok (.getfield 365, 3) := dk_180 1 109 (dk_at dksX0_letter_4 2 rfl rfl)
theorem dX0_letter_97 : decode cX0_letter 97 = .ok (.getfield 366, 3) := dk_180 1 110 (dk_at dksX0_letter_4 5 rfl rfl)
theorem dX0_letter_100 : decode cX0_letter 100 = .ok (.goto 32, 3) := dk_167 0 32 (dk_at dksX0_letter_4 8 rfl rfl)
theorem dX0_letter_103 : decode cX0_letter 103 = .ok (.aload 4, 2) := dk_25 4 (dk_at dksX0_letter_4 11 rfl rfl)
theorem dX0_letter_105 : decode cX0_letter 105 = .ok (.getfield 338, 3) := dk_180 1 82 (dk_at dksX0_letter_4 13 rfl rfl)
theorem dX0_letter_108 : decode cX0_letter 108 = .ok (.goto 24, 3) := dk_167 0 24 (dk_at dksX0_letter_4 16 rfl rfl)
theorem dX0_letter_111 : decode cX0_letter 111 = .ok (.aload 4, 2) := dk_25 4 (dk_at dksX0_letter_4 19 rfl rfl)
theorem dX0_letter_113 : decode cX0_letter 113 = .ok (.getfield 371, 3) := dk_180 1 115 (dk_at dksX0_letter_4 21 rfl rfl)
theorem dX0_letter_116 : decode cX0_letter 116 = .ok (.goto 16, 3) := dk_167 0 16 (dk_at dksX0_letter_5 0 rfl rfl)
theorem dX0_letter_119 : decode cX0_letter 119 = .ok (.aload 4, 2) := dk_25 4 (dk_at dksX0_letter_5 3 rfl rfl)
theorem dX0_letter_121 : decode cX0_letter 121 = .ok (.getfield 372, 3) := dk_180 1 116 (dk_at dksX0_letter_5 5 rfl rfl)
theorem dX0_letter_124 : decode cX0_letter 124 = .ok (.goto 8, 3) := dk_167 0 8 (dk_at dksX0_letter_5 8 rfl rfl)
theorem dX0_letter_127 : decode cX0_letter 127 = .ok (.aload 4, 2) := dk_25 4 (dk_at dksX0_letter_5 11 rfl rfl)
theorem dX0_letter_129 : decode cX0_letter 129 = .ok (.getfield 375, 3) := dk_180 1 119 (dk_at dksX0_letter_5 13 rfl rfl)
theorem dX0_letter_132 : decode cX0_letter 132 = .ok (.ireturn, 1) := dk_172 (dk_at dksX0_letter_5 16 rfl rfl)
abbrev cX0_consumerOf : ByteArray := prog_1_method_47_code
def yX0_consumerOf : MethodName := ⟨RX0, "consumerOf", "(II)I"⟩
def dkwX0_consumerOf_4 : List UInt8 := [180, 0, 65, 153, 0, 7, 4, 167, 0, 11, 3, 167, 0, 7, 45, 180, 1, 122, 172]
abbrev dktX0_consumerOf_4 : List UInt8 := dkwX0_consumerOf_4 ++ []
def dkwX0_consumerOf_3 : List UInt8 := [45, 180, 1, 85, 167, 0, 37, 45, 180, 1, 0, 167, 0, 30, 42, 45, 182, 1, 31, 167, 0, 22, 45]
abbrev dktX0_consumerOf_3 : List UInt8 := dkwX0_consumerOf_3 ++ dktX0_consumerOf_4
def dkwX0_consumerOf_2 : List UInt8 := [170, 0, 0, 0, 0, 0, 0, 69, 0, 0, 0, 0, 0, 0, 0, 3, 0, 0, 0, 32, 0, 0, 0, 39, 0, 0, 0, 46, 0, 0, 0, 54]
abbrev dktX0_consumerOf_2 : List UInt8 := dkwX0_consumerOf_2 ++ dktX0_consumerOf_3
def dkwX0_consumerOf_1 : List UInt8 := [42, 180, 0, 16, 180, 0, 52, 27, 182, 0, 59, 192, 0, 63, 78, 28]
abbrev dktX0_consumerOf_1 : List UInt8 := dkwX0_consumerOf_1 ++ dktX0_consumerOf_2
def dkwX0_consumerOf_0 : List UInt8 := [42, 27, 182, 0, 55, 153, 0, 12, 28, 3, 7, 184, 0, 39, 154, 0, 10, 42, 16, 174, 182, 0, 104, 172]
abbrev dktX0_consumerOf_0 : List UInt8 := dkwX0_consumerOf_0 ++ dktX0_consumerOf_1
theorem dksX0_consumerOf_0 : cX0_consumerOf.data.toList.drop 0 = dktX0_consumerOf_0 := by decide +kernel
theorem dksX0_consumerOf_1 : cX0_consumerOf.data.toList.drop 24 = dktX0_consumerOf_1 := dk_seg dksX0_consumerOf_0 24 rfl rfl
theorem dksX0_consumerOf_2 : cX0_consumerOf.data.toList.drop 40 = dktX0_consumerOf_2 := dk_seg dksX0_consumerOf_1 16 rfl rfl
theorem dksX0_consumerOf_3 : cX0_consumerOf.data.toList.drop 72 = dktX0_consumerOf_3 := dk_seg dksX0_consumerOf_2 32 rfl rfl
theorem dksX0_consumerOf_4 : cX0_consumerOf.data.toList.drop 95 = dktX0_consumerOf_4 := dk_seg dksX0_consumerOf_3 23 rfl rfl
theorem dX0_consumerOf_0 : decode cX0_consumerOf 0 = .ok (.aload_n 0, 1) := dk_42 (dk_at dksX0_consumerOf_0 0 rfl rfl)
theorem dX0_consumerOf_1 : decode cX0_consumerOf 1 = .ok (.iload_n 1, 1) := dk_27 (dk_at dksX0_consumerOf_0 1 rfl rfl)
theorem dX0_consumerOf_2 : decode cX0_consumerOf 2 = .ok (.invokevirtual 55, 3) := dk_182 0 55 (dk_at dksX0_consumerOf_0 2 rfl rfl)
theorem dX0_consumerOf_5 : decode cX0_consumerOf 5 = .ok (.ifCond .eq 12, 3) := dk_153 0 12 (dk_at dksX0_consumerOf_0 5 rfl rfl)
theorem dX0_consumerOf_8 : decode cX0_consumerOf 8 = .ok (.iload_n 2, 1) := dk_28 (dk_at dksX0_consumerOf_0 8 rfl rfl)
theorem dX0_consumerOf_9 : decode cX0_consumerOf 9 = .ok (.iconst 0, 1) := dk_3 (dk_at dksX0_consumerOf_0 9 rfl rfl)
theorem dX0_consumerOf_10 : decode cX0_consumerOf 10 = .ok (.iconst 4, 1) := dk_7 (dk_at dksX0_consumerOf_0 10 rfl rfl)
theorem dX0_consumerOf_11 : decode cX0_consumerOf 11 = .ok (.invokestatic 39, 3) := dk_184 0 39 (dk_at dksX0_consumerOf_0 11 rfl rfl)
theorem dX0_consumerOf_14 : decode cX0_consumerOf 14 = .ok (.ifCond .ne 10, 3) := dk_154 0 10 (dk_at dksX0_consumerOf_0 14 rfl rfl)
theorem dX0_consumerOf_17 : decode cX0_consumerOf 17 = .ok (.aload_n 0, 1) := dk_42 (dk_at dksX0_consumerOf_0 17 rfl rfl)
theorem dX0_consumerOf_18 : decode cX0_consumerOf 18 = .ok (.bipush (-82), 2) := dk_16 174 (dk_at dksX0_consumerOf_0 18 rfl rfl)
theorem dX0_consumerOf_20 : decode cX0_consumerOf 20 = .ok (.invokevirtual 104, 3) := dk_182 0 104 (dk_at dksX0_consumerOf_0 20 rfl rfl)
theorem dX0_consumerOf_23 : decode cX0_consumerOf 23 = .ok (.ireturn, 1) := dk_172 (dk_at dksX0_consumerOf_0 23 rfl rfl)
theorem dX0_consumerOf_24 : decode cX0_consumerOf 24 = .ok (.aload_n 0, 1) := dk_42 (dk_at dksX0_consumerOf_1 0 rfl rfl)
theorem dX0_consumerOf_25 : decode cX0_consumerOf 25 = .ok (.getfield 16, 3) := dk_180 0 16 (dk_at dksX0_consumerOf_1 1 rfl rfl)
theorem dX0_consumerOf_28 : decode cX0_consumerOf 28 = .ok (.getfield 52, 3) := dk_180 0 52 (dk_at dksX0_consumerOf_1 4 rfl rfl)
theorem dX0_consumerOf_31 : decode cX0_consumerOf 31 = .ok (.iload_n 1, 1) := dk_27 (dk_at dksX0_consumerOf_1 7 rfl rfl)
theorem dX0_consumerOf_32 : decode cX0_consumerOf 32 = .ok (.invokevirtual 59, 3) := dk_182 0 59 (dk_at dksX0_consumerOf_1 8 rfl rfl)
theorem dX0_consumerOf_35 : decode cX0_consumerOf 35 = .ok (.checkcast 63, 3) := dk_192 0 63 (dk_at dksX0_consumerOf_1 11 rfl rfl)
theorem dX0_consumerOf_38 : decode cX0_consumerOf 38 = .ok (.astore_n 3, 1) := dk_78 (dk_at dksX0_consumerOf_1 14 rfl rfl)
theorem dX0_consumerOf_39 : decode cX0_consumerOf 39 = .ok (.iload_n 2, 1) := dk_28 (dk_at dksX0_consumerOf_1 15 rfl rfl)
theorem dX0_consumerOf_40 : decode cX0_consumerOf 40 = .ok (.tableswitch 69 0 3 #[32, 39, 46, 54], 32) := by decide +kernel
theorem dX0_consumerOf_72 : decode cX0_consumerOf 72 = .ok (.aload_n 3, 1) := dk_45 (dk_at dksX0_consumerOf_3 0 rfl rfl)
theorem dX0_consumerOf_73 : decode cX0_consumerOf 73 = .ok (.getfield 341, 3) := dk_180 1 85 (dk_at dksX0_consumerOf_3 1 rfl rfl)
theorem dX0_consumerOf_76 : decode cX0_consumerOf 76 = .ok (.goto 37, 3) := dk_167 0 37 (dk_at dksX0_consumerOf_3 4 rfl rfl)
theorem dX0_consumerOf_79 : decode cX0_consumerOf 79 = .ok (.aload_n 3, 1) := dk_45 (dk_at dksX0_consumerOf_3 7 rfl rfl)
theorem dX0_consumerOf_80 : decode cX0_consumerOf 80 = .ok (.getfield 256, 3) := dk_180 1 0 (dk_at dksX0_consumerOf_3 8 rfl rfl)
theorem dX0_consumerOf_83 : decode cX0_consumerOf 83 = .ok (.goto 30, 3) := dk_167 0 30 (dk_at dksX0_consumerOf_3 11 rfl rfl)
theorem dX0_consumerOf_86 : decode cX0_consumerOf 86 = .ok (.aload_n 0, 1) := dk_42 (dk_at dksX0_consumerOf_3 14 rfl rfl)
theorem dX0_consumerOf_87 : decode cX0_consumerOf 87 = .ok (.aload_n 3, 1) := dk_45 (dk_at dksX0_consumerOf_3 15 rfl rfl)
theorem dX0_consumerOf_88 : decode cX0_consumerOf 88 = .ok (.invokevirtual 287, 3) := dk_182 1 31 (dk_at dksX0_consumerOf_3 16 rfl rfl)
theorem dX0_consumerOf_91 : decode cX0_consumerOf 91 = .ok (.goto 22, 3) := dk_167 0 22 (dk_at dksX0_consumerOf_3 19 rfl rfl)
theorem dX0_consumerOf_94 : decode cX0_consumerOf 94 = .ok (.aload_n 3, 1) := dk_45 (dk_at dksX0_consumerOf_3 22 rfl rfl)
theorem dX0_consumerOf_95 : decode cX0_consumerOf 95 = .ok (.getfield 65, 3) := dk_180 0 65 (dk_at dksX0_consumerOf_4 0 rfl rfl)
theorem dX0_consumerOf_98 : decode cX0_consumerOf 98 = .ok (.ifCond .eq 7, 3) := dk_153 0 7 (dk_at dksX0_consumerOf_4 3 rfl rfl)
theorem dX0_consumerOf_101 : decode cX0_consumerOf 101 = .ok (.iconst 1, 1) := dk_4 (dk_at dksX0_consumerOf_4 6 rfl rfl)
theorem dX0_consumerOf_102 : decode cX0_consumerOf 102 = .ok (.goto 11, 3) := dk_167 0 11 (dk_at dksX0_consumerOf_4 7 rfl rfl)
theorem dX0_consumerOf_105 : decode cX0_consumerOf 105 = .ok (.iconst 0, 1) := dk_3 (dk_at dksX0_consumerOf_4 10 rfl rfl)
theorem dX0_consumerOf_106 : decode cX0_consumerOf 106 = .ok (.goto 7, 3) := dk_167 0 7 (dk_at dksX0_consumerOf_4 11 rfl rfl)
theorem dX0_consumerOf_109 : decode cX0_consumerOf 109 = .ok (.aload_n 3, 1) := dk_45 (dk_at dksX0_consumerOf_4 14 rfl rfl)
theorem dX0_consumerOf_110 : decode cX0_consumerOf 110 = .ok (.getfield 378, 3) := dk_180 1 122 (dk_at dksX0_consumerOf_4 15 rfl rfl)
theorem dX0_consumerOf_113 : decode cX0_consumerOf 113 = .ok (.ireturn, 1) := dk_172 (dk_at dksX0_consumerOf_4 18 rfl rfl)
abbrev cX0_held : ByteArray := prog_1_method_48_code
def yX0_held : MethodName := ⟨RX0, "held", "(II)I"⟩
def dkwX0_held_3 : List UInt8 := [172]
abbrev dktX0_held_3 : List UInt8 := dkwX0_held_3 ++ []
def dkwX0_held_2 : List UInt8 := [182, 1, 126, 78, 45, 199, 0, 12, 42, 16, 174, 182, 0, 104, 167, 0, 10, 45, 180, 1, 109, 180, 1, 110]
abbrev dktX0_held_2 : List UInt8 := dkwX0_held_2 ++ dktX0_held_3
def dkwX0_held_1 : List UInt8 := [180, 0, 16, 180, 0, 52, 27, 182, 0, 59, 192, 0, 63, 182, 1, 13, 28, 27, 186, 1, 125, 0, 0]
abbrev dktX0_held_1 : List UInt8 := dkwX0_held_1 ++ dktX0_held_2
def dkwX0_held_0 : List UInt8 := [42, 27, 182, 0, 55, 153, 0, 7, 28, 156, 0, 10, 42, 16, 174, 182, 0, 104, 172, 42, 180, 0, 16, 42]
abbrev dktX0_held_0 : List UInt8 := dkwX0_held_0 ++ dktX0_held_1
theorem dksX0_held_0 : cX0_held.data.toList.drop 0 = dktX0_held_0 := by decide +kernel
theorem dksX0_held_1 : cX0_held.data.toList.drop 24 = dktX0_held_1 := dk_seg dksX0_held_0 24 rfl rfl
theorem dksX0_held_2 : cX0_held.data.toList.drop 47 = dktX0_held_2 := dk_seg dksX0_held_1 23 rfl rfl
theorem dksX0_held_3 : cX0_held.data.toList.drop 71 = dktX0_held_3 := dk_seg dksX0_held_2 24 rfl rfl
theorem dX0_held_0 : decode cX0_held 0 = .ok (.aload_n 0, 1) := dk_42 (dk_at dksX0_held_0 0 rfl rfl)
theorem dX0_held_1 : decode cX0_held 1 = .ok (.iload_n 1, 1) := dk_27 (dk_at dksX0_held_0 1 rfl rfl)
theorem dX0_held_2 : decode cX0_held 2 = .ok (.invokevirtual 55, 3) := dk_182 0 55 (dk_at dksX0_held_0 2 rfl rfl)
theorem dX0_held_5 : decode cX0_held 5 = .ok (.ifCond .eq 7, 3) := dk_153 0 7 (dk_at dksX0_held_0 5 rfl rfl)
theorem dX0_held_8 : decode cX0_held 8 = .ok (.iload_n 2, 1) := dk_28 (dk_at dksX0_held_0 8 rfl rfl)
theorem dX0_held_9 : decode cX0_held 9 = .ok (.ifCond .ge 10, 3) := dk_156 0 10 (dk_at dksX0_held_0 9 rfl rfl)
theorem dX0_held_12 : decode cX0_held 12 = .ok (.aload_n 0, 1) := dk_42 (dk_at dksX0_held_0 12 rfl rfl)
theorem dX0_held_13 : decode cX0_held 13 = .ok (.bipush (-82), 2) := dk_16 174 (dk_at dksX0_held_0 13 rfl rfl)
theorem dX0_held_15 : decode cX0_held 15 = .ok (.invokevirtual 104, 3) := dk_182 0 104 (dk_at dksX0_held_0 15 rfl rfl)
theorem dX0_held_18 : decode cX0_held 18 = .ok (.ireturn, 1) := dk_172 (dk_at dksX0_held_0 18 rfl rfl)
theorem dX0_held_19 : decode cX0_held 19 = .ok (.aload_n 0, 1) := dk_42 (dk_at dksX0_held_0 19 rfl rfl)
theorem dX0_held_20 : decode cX0_held 20 = .ok (.getfield 16, 3) := dk_180 0 16 (dk_at dksX0_held_0 20 rfl rfl)
theorem dX0_held_23 : decode cX0_held 23 = .ok (.aload_n 0, 1) := dk_42 (dk_at dksX0_held_0 23 rfl rfl)
theorem dX0_held_24 : decode cX0_held 24 = .ok (.getfield 16, 3) := dk_180 0 16 (dk_at dksX0_held_1 0 rfl rfl)
theorem dX0_held_27 : decode cX0_held 27 = .ok (.getfield 52, 3) := dk_180 0 52 (dk_at dksX0_held_1 3 rfl rfl)
theorem dX0_held_30 : decode cX0_held 30 = .ok (.iload_n 1, 1) := dk_27 (dk_at dksX0_held_1 6 rfl rfl)
theorem dX0_held_31 : decode cX0_held 31 = .ok (.invokevirtual 59, 3) := dk_182 0 59 (dk_at dksX0_held_1 7 rfl rfl)
theorem dX0_held_34 : decode cX0_held 34 = .ok (.checkcast 63, 3) := dk_192 0 63 (dk_at dksX0_held_1 10 rfl rfl)
theorem dX0_held_37 : decode cX0_held 37 = .ok (.invokevirtual 269, 3) := dk_182 1 13 (dk_at dksX0_held_1 13 rfl rfl)
theorem dX0_held_40 : decode cX0_held 40 = .ok (.iload_n 2, 1) := dk_28 (dk_at dksX0_held_1 16 rfl rfl)
theorem dX0_held_41 : decode cX0_held 41 = .ok (.iload_n 1, 1) := dk_27 (dk_at dksX0_held_1 17 rfl rfl)
theorem dX0_held_42 : decode cX0_held 42 = .ok (.invokedynamic 381, 5) := by decide +kernel
theorem dX0_held_47 : decode cX0_held 47 = .ok (.invokevirtual 382, 3) := dk_182 1 126 (dk_at dksX0_held_2 0 rfl rfl)
theorem dX0_held_50 : decode cX0_held 50 = .ok (.astore_n 3, 1) := dk_78 (dk_at dksX0_held_2 3 rfl rfl)
theorem dX0_held_51 : decode cX0_held 51 = .ok (.aload_n 3, 1) := dk_45 (dk_at dksX0_held_2 4 rfl rfl)
theorem dX0_held_52 : decode cX0_held 52 = .ok (.ifnonnull 12, 3) := dk_199 0 12 (dk_at dksX0_held_2 5 rfl rfl)
theorem dX0_held_55 : decode cX0_held 55 = .ok (.aload_n 0, 1) := dk_42 (dk_at dksX0_held_2 8 rfl rfl)
theorem dX0_held_56 : decode cX0_held 56 = .ok (.bipush (-82), 2) := dk_16 174 (dk_at dksX0_held_2 9 rfl rfl)
theorem dX0_held_58 : decode cX0_held 58 = .ok (.invokevirtual 104, 3) := dk_182 0 104 (dk_at dksX0_held_2 11 rfl rfl)
theorem dX0_held_61 : decode cX0_held 61 = .ok (.goto 10, 3) := dk_167 0 10 (dk_at dksX0_held_2 14 rfl rfl)
theorem dX0_held_64 : decode cX0_held 64 = .ok (.aload_n 3, 1) := dk_45 (dk_at dksX0_held_2 17 rfl rfl)
theorem dX0_held_65 : decode cX0_held 65 = .ok (.getfield 365, 3) := dk_180 1 109 (dk_at dksX0_held_2 18 rfl rfl)
theorem dX0_held_68 : decode cX0_held 68 = .ok (.getfield 366, 3) := dk_180 1 110 (dk_at dksX0_held_2 21 rfl rfl)
theorem dX0_held_71 : decode cX0_held 71 = .ok (.ireturn, 1) := dk_172 (dk_at dksX0_held_3 0 rfl rfl)
abbrev cX0_lambda_held_2 : ByteArray := prog_1_method_75_code
def yX0_lambda_held_2 : MethodName := ⟨RX0, "lambda$held$2", "(ILCreditBroker$Letter;)Z"⟩
def dkwX0_lambda_held_2_0 : List UInt8 := [43, 26, 182, 1, 242, 172]
abbrev dktX0_lambda_held_2_0 : List UInt8 := dkwX0_lambda_held_2_0 ++ []
theorem dksX0_lambda_held_2_0 : cX0_lambda_held_2.data.toList.drop 0 = dktX0_lambda_held_2_0 := by decide +kernel
theorem dX0_lambda_held_2_0 : decode cX0_lambda_held_2 0 = .ok (.aload_n 1, 1) := dk_43 (dk_at dksX0_lambda_held_2_0 0 rfl rfl)
theorem dX0_lambda_held_2_1 : decode cX0_lambda_held_2 1 = .ok (.iload_n 0, 1) := dk_26 (dk_at dksX0_lambda_held_2_0 1 rfl rfl)
theorem dX0_lambda_held_2_2 : decode cX0_lambda_held_2 2 = .ok (.invokevirtual 498, 3) := dk_182 1 242 (dk_at dksX0_lambda_held_2_0 2 rfl rfl)
theorem dX0_lambda_held_2_5 : decode cX0_lambda_held_2 5 = .ok (.ireturn, 1) := dk_172 (dk_at dksX0_lambda_held_2_0 5 rfl rfl)
abbrev cX0_messageOf : ByteArray := prog_1_method_49_code
def yX0_messageOf : MethodName := ⟨RX0, "messageOf", "(II)I"⟩
def dkwX0_messageOf_7 : List UInt8 := [54, 4, 167, 255, 218, 21, 4, 172, 45, 180, 1, 142, 172]
abbrev dktX0_messageOf_7 : List UInt8 := dkwX0_messageOf_7 ++ []
def dkwX0_messageOf_6 : List UInt8 := [185, 1, 72, 1, 0, 192, 0, 76, 58, 6, 21, 4, 25, 6, 45, 186, 1, 139, 0, 0, 182, 1, 21, 96]
abbrev dktX0_messageOf_6 : List UInt8 := dkwX0_messageOf_6 ++ dktX0_messageOf_7
def dkwX0_messageOf_5 : List UInt8 := [180, 0, 16, 180, 0, 43, 182, 1, 81, 58, 5, 25, 5, 185, 1, 67, 1, 0, 153, 0, 34, 25, 5]
abbrev dktX0_messageOf_5 : List UInt8 := dkwX0_messageOf_5 ++ dktX0_messageOf_6
def dkwX0_messageOf_4 : List UInt8 := [45, 180, 1, 129, 172, 45, 180, 1, 132, 172, 45, 180, 1, 135, 172, 45, 180, 1, 138, 172, 3, 54, 4, 42]
abbrev dktX0_messageOf_4 : List UInt8 := dkwX0_messageOf_4 ++ dktX0_messageOf_5
def dkwX0_messageOf_3 : List UInt8 := [170, 0, 0, 0, 0, 0, 0, 115, 0, 0, 0, 0, 0, 0, 0, 4, 0, 0, 0, 36, 0, 0, 0, 41, 0, 0, 0, 46, 0, 0, 0, 51, 0, 0, 0, 56]
abbrev dktX0_messageOf_3 : List UInt8 := dkwX0_messageOf_3 ++ dktX0_messageOf_4
def dkwX0_messageOf_2 : List UInt8 := [192, 1, 111, 78, 28]
abbrev dktX0_messageOf_2 : List UInt8 := dkwX0_messageOf_2 ++ dktX0_messageOf_3
def dkwX0_messageOf_1 : List UInt8 := [184, 0, 39, 154, 0, 10, 42, 16, 174, 182, 0, 104, 172, 42, 180, 0, 16, 180, 1, 3, 27, 182, 0, 59]
abbrev dktX0_messageOf_1 : List UInt8 := dkwX0_messageOf_1 ++ dktX0_messageOf_2
def dkwX0_messageOf_0 : List UInt8 := [27, 3, 42, 180, 0, 16, 180, 1, 3, 182, 0, 47, 4, 100, 184, 0, 39, 153, 0, 12, 28, 3, 8]
abbrev dktX0_messageOf_0 : List UInt8 := dkwX0_messageOf_0 ++ dktX0_messageOf_1
theorem dksX0_messageOf_0 : cX0_messageOf.data.toList.drop 0 = dktX0_messageOf_0 := by decide +kernel
theorem dksX0_messageOf_1 : cX0_messageOf.data.toList.drop 23 = dktX0_messageOf_1 := dk_seg dksX0_messageOf_0 23 rfl rfl
theorem dksX0_messageOf_2 : cX0_messageOf.data.toList.drop 47 = dktX0_messageOf_2 := dk_seg dksX0_messageOf_1 24 rfl rfl
theorem dksX0_messageOf_3 : cX0_messageOf.data.toList.drop 52 = dktX0_messageOf_3 := dk_seg dksX0_messageOf_2 5 rfl rfl
theorem dksX0_messageOf_4 : cX0_messageOf.data.toList.drop 88 = dktX0_messageOf_4 := dk_seg dksX0_messageOf_3 36 rfl rfl
theorem dksX0_messageOf_5 : cX0_messageOf.data.toList.drop 112 = dktX0_messageOf_5 := dk_seg dksX0_messageOf_4 24 rfl rfl
theorem dksX0_messageOf_6 : cX0_messageOf.data.toList.drop 135 = dktX0_messageOf_6 := dk_seg dksX0_messageOf_5 23 rfl rfl
theorem dksX0_messageOf_7 : cX0_messageOf.data.toList.drop 159 = dktX0_messageOf_7 := dk_seg dksX0_messageOf_6 24 rfl rfl
theorem dX0_messageOf_0 : decode cX0_messageOf 0 = .ok (.iload_n 1, 1) := dk_27 (dk_at dksX0_messageOf_0 0 rfl rfl)
theorem dX0_messageOf_1 : decode cX0_messageOf 1 = .ok (.iconst 0, 1) := dk_3 (dk_at dksX0_messageOf_0 1 rfl rfl)
theorem dX0_messageOf_2 : decode cX0_messageOf 2 = .ok (.aload_n 0, 1) := dk_42 (dk_at dksX0_messageOf_0 2 rfl rfl)
theorem dX0_messageOf_3 : decode cX0_messageOf 3 = .ok (.getfield 16, 3) := dk_180 0 16 (dk_at dksX0_messageOf_0 3 rfl rfl)
theorem dX0_messageOf_6 : decode cX0_messageOf 6 = .ok (.getfield 259, 3) := dk_180 1 3 (dk_at dksX0_messageOf_0 6 rfl rfl)
theorem dX0_messageOf_9 : decode cX0_messageOf 9 = .ok (.invokevirtual 47, 3) := dk_182 0 47 (dk_at dksX0_messageOf_0 9 rfl rfl)
theorem dX0_messageOf_12 : decode cX0_messageOf 12 = .ok (.iconst 1, 1) := dk_4 (dk_at dksX0_messageOf_0 12 rfl rfl)
theorem dX0_messageOf_13 : decode cX0_messageOf 13 = .ok (.isub, 1) := dk_100 (dk_at dksX0_messageOf_0 13 rfl rfl)
theorem dX0_messageOf_14 : decode cX0_messageOf 14 = .ok (.invokestatic 39, 3) := dk_184 0 39 (dk_at dksX0_messageOf_0 14 rfl rfl)
theorem dX0_messageOf_17 : decode cX0_messageOf 17 = .ok (.ifCond .eq 12, 3) := dk_153 0 12 (dk_at dksX0_messageOf_0 17 rfl rfl)
theorem dX0_messageOf_20 : decode cX0_messageOf 20 = .ok (.iload_n 2, 1) := dk_28 (dk_at dksX0_messageOf_0 20 rfl rfl)
theorem dX0_messageOf_21 : decode cX0_messageOf 21 = .ok (.iconst 0, 1) := dk_3 (dk_at dksX0_messageOf_0 21 rfl rfl)
theorem dX0_messageOf_22 : decode cX0_messageOf 22 = .ok (.iconst 5, 1) := dk_8 (dk_at dksX0_messageOf_0 22 rfl rfl)
theorem dX0_messageOf_23 : decode cX0_messageOf 23 = .ok (.invokestatic 39, 3) := dk_184 0 39 (dk_at dksX0_messageOf_1 0 rfl rfl)
theorem dX0_messageOf_26 : decode cX0_messageOf 26 = .ok (.ifCond .ne 10, 3) := dk_154 0 10 (dk_at dksX0_messageOf_1 3 rfl rfl)
theorem dX0_messageOf_29 : decode cX0_messageOf 29 = .ok (.aload_n 0, 1) := dk_42 (dk_at dksX0_messageOf_1 6 rfl rfl)
theorem dX0_messageOf_30 : decode cX0_messageOf 30 = .ok (.bipush (-82), 2) := dk_16 174 (dk_at dksX0_messageOf_1 7 rfl rfl)
theorem dX0_messageOf_32 : decode cX0_messageOf 32 = .ok (.invokevirtual 104, 3) := dk_182 0 104 (dk_at dksX0_messageOf_1 9 rfl rfl)
theorem dX0_messageOf_35 : decode cX0_messageOf 35 = .ok (.ireturn, 1) := dk_172 (dk_at dksX0_messageOf_1 12 rfl rfl)
theorem dX0_messageOf_36 : decode cX0_messageOf 36 = .ok (.aload_n 0, 1) := dk_42 (dk_at dksX0_messageOf_1 13 rfl rfl)
theorem dX0_messageOf_37 : decode cX0_messageOf 37 = .ok (.getfield 16, 3) := dk_180 0 16 (dk_at dksX0_messageOf_1 14 rfl rfl)
theorem dX0_messageOf_40 : decode cX0_messageOf 40 = .ok (.getfield 259, 3) := dk_180 1 3 (dk_at dksX0_messageOf_1 17 rfl rfl)
theorem dX0_messageOf_43 : decode cX0_messageOf 43 = .ok (.iload_n 1, 1) := dk_27 (dk_at dksX0_messageOf_1 20 rfl rfl)
theorem dX0_messageOf_44 : decode cX0_messageOf 44 = .ok (.invokevirtual 59, 3) := dk_182 0 59 (dk_at dksX0_messageOf_1 21 rfl rfl)
theorem dX0_messageOf_47 : decode cX0_messageOf 47 = .ok (.checkcast 367, 3) := dk_192 1 111 (dk_at dksX0_messageOf_2 0 rfl rfl)
theorem dX0_messageOf_50 : decode cX0_messageOf 50 = .ok (.astore_n 3, 1) := dk_78 (dk_at dksX0_messageOf_2 3 rfl rfl)
theorem dX0_messageOf_51 : decode cX0_messageOf 51 = .ok (.iload_n 2, 1) := dk_28 (dk_at dksX0_messageOf_2 4 rfl rfl)
theorem dX0_messageOf_52 : decode cX0_messageOf 52 = .ok (.tableswitch 115 0 4 #[36, 41, 46, 51, 56], 36) := by decide +kernel
theorem dX0_messageOf_88 : decode cX0_messageOf 88 = .ok (.aload_n 3, 1) := dk_45 (dk_at dksX0_messageOf_4 0 rfl rfl)
theorem dX0_messageOf_89 : decode cX0_messageOf 89 = .ok (.getfield 385, 3) := dk_180 1 129 (dk_at dksX0_messageOf_4 1 rfl rfl)
theorem dX0_messageOf_92 : decode cX0_messageOf 92 = .ok (.ireturn, 1) := dk_172 (dk_at dksX0_messageOf_4 4 rfl rfl)
theorem dX0_messageOf_93 : decode cX0_messageOf 93 = .ok (.aload_n 3, 1) := dk_45 (dk_at dksX0_messageOf_4 5 rfl rfl)
theorem dX0_messageOf_94 : decode cX0_messageOf 94 = .ok (.getfield 388, 3) := dk_180 1 132 (dk_at dksX0_messageOf_4 6 rfl rfl)
theorem dX0_messageOf_97 : decode cX0_messageOf 97 = .ok (.ireturn, 1) := dk_172 (dk_at dksX0_messageOf_4 9 rfl rfl)
theorem dX0_messageOf_98 : decode cX0_messageOf 98 = .ok (.aload_n 3, 1) := dk_45 (dk_at dksX0_messageOf_4 10 rfl rfl)
theorem dX0_messageOf_99 : decode cX0_messageOf 99 = .ok (.getfield 391, 3) := dk_180 1 135 (dk_at dksX0_messageOf_4 11 rfl rfl)
theorem dX0_messageOf_102 : decode cX0_messageOf 102 = .ok (.ireturn, 1) := dk_172 (dk_at dksX0_messageOf_4 14 rfl rfl)
theorem dX0_messageOf_103 : decode cX0_messageOf 103 = .ok (.aload_n 3, 1) := dk_45 (dk_at dksX0_messageOf_4 15 rfl rfl)
theorem dX0_messageOf_104 : decode cX0_messageOf 104 = .ok (.getfield 394, 3) := dk_180 1 138 (dk_at dksX0_messageOf_4 16 rfl rfl)
theorem dX0_messageOf_107 : decode cX0_messageOf 107 = .ok (.ireturn, 1) := dk_172 (dk_at dksX0_messageOf_4 19 rfl rfl)
theorem dX0_messageOf_108 : decode cX0_messageOf 108 = .ok (.iconst 0, 1) := dk_3 (dk_at dksX0_messageOf_4 20 rfl rfl)
theorem dX0_messageOf_109 : decode cX0_messageOf 109 = .ok (.istore 4, 2) := dk_54 4 (dk_at dksX0_messageOf_4 21 rfl rfl)
theorem dX0_messageOf_111 : decode cX0_messageOf 111 = .ok (.aload_n 0, 1) := dk_42 (dk_at dksX0_messageOf_4 23 rfl rfl)
theorem dX0_messageOf_112 : decode cX0_messageOf 112 = .ok (.getfield 16, 3) := dk_180 0 16 (dk_at dksX0_messageOf_5 0 rfl rfl)
theorem dX0_messageOf_115 : decode cX0_messageOf 115 = .ok (.getfield 43, 3) := dk_180 0 43 (dk_at dksX0_messageOf_5 3 rfl rfl)
theorem dX0_messageOf_118 : decode cX0_messageOf 118 = .ok (.invokevirtual 337, 3) := dk_182 1 81 (dk_at dksX0_messageOf_5 6 rfl rfl)
theorem dX0_messageOf_121 : decode cX0_messageOf 121 = .ok (.astore 5, 2) := dk_58 5 (dk_at dksX0_messageOf_5 9 rfl rfl)
theorem dX0_messageOf_123 : decode cX0_messageOf 123 = .ok (.aload 5, 2) := dk_25 5 (dk_at dksX0_messageOf_5 11 rfl rfl)
theorem dX0_messageOf_125 : decode cX0_messageOf 125 = .ok (.invokeinterface 323 1, 5) := by decide +kernel
theorem dX0_messageOf_130 : decode cX0_messageOf 130 = .ok (.ifCond .eq 34, 3) := dk_153 0 34 (dk_at dksX0_messageOf_5 18 rfl rfl)
theorem dX0_messageOf_133 : decode cX0_messageOf 133 = .ok (.aload 5, 2) := dk_25 5 (dk_at dksX0_messageOf_5 21 rfl rfl)
theorem dX0_messageOf_135 : decode cX0_messageOf 135 = .ok (.invokeinterface 328 1, 5) := by decide +kernel
theorem dX0_messageOf_140 : decode cX0_messageOf 140 = .ok (.checkcast 76, 3) := dk_192 0 76 (dk_at dksX0_messageOf_6 5 rfl rfl)
theorem dX0_messageOf_143 : decode cX0_messageOf 143 = .ok (.astore 6, 2) := dk_58 6 (dk_at dksX0_messageOf_6 8 rfl rfl)
theorem dX0_messageOf_145 : decode cX0_messageOf 145 = .ok (.iload 4, 2) := dk_21 4 (dk_at dksX0_messageOf_6 10 rfl rfl)
theorem dX0_messageOf_147 : decode cX0_messageOf 147 = .ok (.aload 6, 2) := dk_25 6 (dk_at dksX0_messageOf_6 12 rfl rfl)
theorem dX0_messageOf_149 : decode cX0_messageOf 149 = .ok (.aload_n 3, 1) := dk_45 (dk_at dksX0_messageOf_6 14 rfl rfl)
theorem dX0_messageOf_150 : decode cX0_messageOf 150 = .ok (.invokedynamic 395, 5) := by decide +kernel
theorem dX0_messageOf_155 : decode cX0_messageOf 155 = .ok (.invokevirtual 277, 3) := dk_182 1 21 (dk_at dksX0_messageOf_6 20 rfl rfl)
theorem dX0_messageOf_158 : decode cX0_messageOf 158 = .ok (.iadd, 1) := dk_96 (dk_at dksX0_messageOf_6 23 rfl rfl)
theorem dX0_messageOf_159 : decode cX0_messageOf 159 = .ok (.istore 4, 2) := dk_54 4 (dk_at dksX0_messageOf_7 0 rfl rfl)
theorem dX0_messageOf_161 : decode cX0_messageOf 161 = .ok (.goto (-38), 3) := dk_167 255 218 (dk_at dksX0_messageOf_7 2 rfl rfl)
theorem dX0_messageOf_164 : decode cX0_messageOf 164 = .ok (.iload 4, 2) := dk_21 4 (dk_at dksX0_messageOf_7 5 rfl rfl)
theorem dX0_messageOf_166 : decode cX0_messageOf 166 = .ok (.ireturn, 1) := dk_172 (dk_at dksX0_messageOf_7 7 rfl rfl)
theorem dX0_messageOf_167 : decode cX0_messageOf 167 = .ok (.aload_n 3, 1) := dk_45 (dk_at dksX0_messageOf_7 8 rfl rfl)
theorem dX0_messageOf_168 : decode cX0_messageOf 168 = .ok (.getfield 398, 3) := dk_180 1 142 (dk_at dksX0_messageOf_7 9 rfl rfl)
theorem dX0_messageOf_171 : decode cX0_messageOf 171 = .ok (.ireturn, 1) := dk_172 (dk_at dksX0_messageOf_7 12 rfl rfl)
abbrev cX0_lambda_messageOf_3 : ByteArray := prog_1_method_74_code
def yX0_lambda_messageOf_3 : MethodName := ⟨RX0, "lambda$messageOf$3", "(LCreditBroker$Message;LCreditBroker$Letter;)Z"⟩
def dkwX0_lambda_messageOf_3_0 : List UInt8 := [43, 180, 1, 109, 42, 166, 0, 7, 4, 167, 0, 4, 3, 172]
abbrev dktX0_lambda_messageOf_3_0 : List UInt8 := dkwX0_lambda_messageOf_3_0 ++ []
theorem dksX0_lambda_messageOf_3_0 : cX0_lambda_messageOf_3.data.toList.drop 0 = dktX0_lambda_messageOf_3_0 := by decide +kernel
theorem dX0_lambda_messageOf_3_0 : decode cX0_lambda_messageOf_3 0 = .ok (.aload_n 1, 1) := dk_43 (dk_at dksX0_lambda_messageOf_3_0 0 rfl rfl)
theorem dX0_lambda_messageOf_3_1 : decode cX0_lambda_messageOf_3 1 = .ok (.getfield 365, 3) := dk_180 1 109 (dk_at dksX0_lambda_messageOf_3_0 1 rfl rfl)
theorem dX0_lambda_messageOf_3_4 : decode cX0_lambda_messageOf_3 4 = .ok (.aload_n 0, 1) := dk_42 (dk_at dksX0_lambda_messageOf_3_0 4 rfl rfl)
theorem dX0_lambda_messageOf_3_5 : decode cX0_lambda_messageOf_3 5 = .ok (.if_acmp .ne 7, 3) := dk_166 0 7 (dk_at dksX0_lambda_messageOf_3_0 5 rfl rfl)
theorem dX0_lambda_messageOf_3_8 : decode cX0_lambda_messageOf_3 8 = .ok (.iconst 1, 1) := dk_4 (dk_at dksX0_lambda_messageOf_3_0 8 rfl rfl)
theorem dX0_lambda_messageOf_3_9 : decode cX0_lambda_messageOf_3 9 = .ok (.goto 4, 3) := dk_167 0 4 (dk_at dksX0_lambda_messageOf_3_0 9 rfl rfl)
theorem dX0_lambda_messageOf_3_12 : decode cX0_lambda_messageOf_3 12 = .ok (.iconst 0, 1) := dk_3 (dk_at dksX0_lambda_messageOf_3_0 12 rfl rfl)
theorem dX0_lambda_messageOf_3_13 : decode cX0_lambda_messageOf_3 13 = .ok (.ireturn, 1) := dk_172 (dk_at dksX0_lambda_messageOf_3_0 13 rfl rfl)
abbrev cX0_dead : ByteArray := prog_1_method_50_code
def yX0_dead : MethodName := ⟨RX0, "dead", "(II)I"⟩
def dkwX0_dead_3 : List UInt8 := [180, 1, 145, 167, 0, 10, 45, 180, 0, 84, 182, 0, 1, 172]
abbrev dktX0_dead_3 : List UInt8 := dkwX0_dead_3 ++ []
def dkwX0_dead_2 : List UInt8 := [180, 1, 110, 167, 0, 34, 28, 4, 160, 0, 10, 45, 180, 1, 41, 167, 0, 22, 28, 5, 160, 0, 10, 45]
abbrev dktX0_dead_2 : List UInt8 := dkwX0_dead_2 ++ dktX0_dead_3
def dkwX0_dead_1 : List UInt8 := [42, 180, 0, 16, 180, 0, 69, 27, 182, 0, 81, 192, 0, 82, 78, 28, 154, 0, 13, 45, 180, 1, 52]
abbrev dktX0_dead_1 : List UInt8 := dkwX0_dead_1 ++ dktX0_dead_2
def dkwX0_dead_0 : List UInt8 := [42, 27, 182, 0, 78, 153, 0, 12, 28, 3, 6, 184, 0, 39, 154, 0, 10, 42, 16, 174, 182, 0, 104, 172]
abbrev dktX0_dead_0 : List UInt8 := dkwX0_dead_0 ++ dktX0_dead_1
theorem dksX0_dead_0 : cX0_dead.data.toList.drop 0 = dktX0_dead_0 := by decide +kernel
theorem dksX0_dead_1 : cX0_dead.data.toList.drop 24 = dktX0_dead_1 := dk_seg dksX0_dead_0 24 rfl rfl
theorem dksX0_dead_2 : cX0_dead.data.toList.drop 47 = dktX0_dead_2 := dk_seg dksX0_dead_1 23 rfl rfl
theorem dksX0_dead_3 : cX0_dead.data.toList.drop 71 = dktX0_dead_3 := dk_seg dksX0_dead_2 24 rfl rfl
theorem dX0_dead_0 : decode cX0_dead 0 = .ok (.aload_n 0, 1) := dk_42 (dk_at dksX0_dead_0 0 rfl rfl)
theorem dX0_dead_1 : decode cX0_dead 1 = .ok (.iload_n 1, 1) := dk_27 (dk_at dksX0_dead_0 1 rfl rfl)
theorem dX0_dead_2 : decode cX0_dead 2 = .ok (.invokevirtual 78, 3) := dk_182 0 78 (dk_at dksX0_dead_0 2 rfl rfl)
theorem dX0_dead_5 : decode cX0_dead 5 = .ok (.ifCond .eq 12, 3) := dk_153 0 12 (dk_at dksX0_dead_0 5 rfl rfl)
theorem dX0_dead_8 : decode cX0_dead 8 = .ok (.iload_n 2, 1) := dk_28 (dk_at dksX0_dead_0 8 rfl rfl)
theorem dX0_dead_9 : decode cX0_dead 9 = .ok (.iconst 0, 1) := dk_3 (dk_at dksX0_dead_0 9 rfl rfl)
theorem dX0_dead_10 : decode cX0_dead 10 = .ok (.iconst 3, 1) := dk_6 (dk_at dksX0_dead_0 10 rfl rfl)
theorem dX0_dead_11 : decode cX0_dead 11 = .ok (.invokestatic 39, 3) := dk_184 0 39 (dk_at dksX0_dead_0 11 rfl rfl)
theorem dX0_dead_14 : decode cX0_dead 14 = .ok (.ifCond .ne 10, 3) := dk_154 0 10 (dk_at dksX0_dead_0 14 rfl rfl)
theorem dX0_dead_17 : decode cX0_dead 17 = .ok (.aload_n 0, 1) := dk_42 (dk_at dksX0_dead_0 17 rfl rfl)
theorem dX0_dead_18 : decode cX0_dead 18 = .ok (.bipush (-82), 2) := dk_16 174 (dk_at dksX0_dead_0 18 rfl rfl)
theorem dX0_dead_20 : decode cX0_dead 20 = .ok (.invokevirtual 104, 3) := dk_182 0 104 (dk_at dksX0_dead_0 20 rfl rfl)
theorem dX0_dead_23 : decode cX0_dead 23 = .ok (.ireturn, 1) := dk_172 (dk_at dksX0_dead_0 23 rfl rfl)
theorem dX0_dead_24 : decode cX0_dead 24 = .ok (.aload_n 0, 1) := dk_42 (dk_at dksX0_dead_1 0 rfl rfl)
theorem dX0_dead_25 : decode cX0_dead 25 = .ok (.getfield 16, 3) := dk_180 0 16 (dk_at dksX0_dead_1 1 rfl rfl)
theorem dX0_dead_28 : decode cX0_dead 28 = .ok (.getfield 69, 3) := dk_180 0 69 (dk_at dksX0_dead_1 4 rfl rfl)
theorem dX0_dead_31 : decode cX0_dead 31 = .ok (.iload_n 1, 1) := dk_27 (dk_at dksX0_dead_1 7 rfl rfl)
theorem dX0_dead_32 : decode cX0_dead 32 = .ok (.invokevirtual 81, 3) := dk_182 0 81 (dk_at dksX0_dead_1 8 rfl rfl)
theorem dX0_dead_35 : decode cX0_dead 35 = .ok (.checkcast 82, 3) := dk_192 0 82 (dk_at dksX0_dead_1 11 rfl rfl)
theorem dX0_dead_38 : decode cX0_dead 38 = .ok (.astore_n 3, 1) := dk_78 (dk_at dksX0_dead_1 14 rfl rfl)
theorem dX0_dead_39 : decode cX0_dead 39 = .ok (.iload_n 2, 1) := dk_28 (dk_at dksX0_dead_1 15 rfl rfl)
theorem dX0_dead_40 : decode cX0_dead 40 = .ok (.ifCond .ne 13, 3) := dk_154 0 13 (dk_at dksX0_dead_1 16 rfl rfl)
theorem dX0_dead_43 : decode cX0_dead 43 = .ok (.aload_n 3, 1) := dk_45 (dk_at dksX0_dead_1 19 rfl rfl)
theorem dX0_dead_44 : decode cX0_dead 44 = .ok (.getfield 308, 3) := dk_180 1 52 (dk_at dksX0_dead_1 20 rfl rfl)
theorem dX0_dead_47 : decode cX0_dead 47 = .ok (.getfield 366, 3) := dk_180 1 110 (dk_at dksX0_dead_2 0 rfl rfl)
theorem dX0_dead_50 : decode cX0_dead 50 = .ok (.goto 34, 3) := dk_167 0 34 (dk_at dksX0_dead_2 3 rfl rfl)
theorem dX0_dead_53 : decode cX0_dead 53 = .ok (.iload_n 2, 1) := dk_28 (dk_at dksX0_dead_2 6 rfl rfl)
theorem dX0_dead_54 : decode cX0_dead 54 = .ok (.iconst 1, 1) := dk_4 (dk_at dksX0_dead_2 7 rfl rfl)
theorem dX0_dead_55 : decode cX0_dead 55 = .ok (.if_icmp .ne 10, 3) := dk_160 0 10 (dk_at dksX0_dead_2 8 rfl rfl)
theorem dX0_dead_58 : decode cX0_dead 58 = .ok (.aload_n 3, 1) := dk_45 (dk_at dksX0_dead_2 11 rfl rfl)
theorem dX0_dead_59 : decode cX0_dead 59 = .ok (.getfield 297, 3) := dk_180 1 41 (dk_at dksX0_dead_2 12 rfl rfl)
theorem dX0_dead_62 : decode cX0_dead 62 = .ok (.goto 22, 3) := dk_167 0 22 (dk_at dksX0_dead_2 15 rfl rfl)
theorem dX0_dead_65 : decode cX0_dead 65 = .ok (.iload_n 2, 1) := dk_28 (dk_at dksX0_dead_2 18 rfl rfl)
theorem dX0_dead_66 : decode cX0_dead 66 = .ok (.iconst 2, 1) := dk_5 (dk_at dksX0_dead_2 19 rfl rfl)
theorem dX0_dead_67 : decode cX0_dead 67 = .ok (.if_icmp .ne 10, 3) := dk_160 0 10 (dk_at dksX0_dead_2 20 rfl rfl)
theorem dX0_dead_70 : decode cX0_dead 70 = .ok (.aload_n 3, 1) := dk_45 (dk_at dksX0_dead_2 23 rfl rfl)
theorem dX0_dead_71 : decode cX0_dead 71 = .ok (.getfield 401, 3) := dk_180 1 145 (dk_at dksX0_dead_3 0 rfl rfl)
theorem dX0_dead_74 : decode cX0_dead 74 = .ok (.goto 10, 3) := dk_167 0 10 (dk_at dksX0_dead_3 3 rfl rfl)
theorem dX0_dead_77 : decode cX0_dead 77 = .ok (.aload_n 3, 1) := dk_45 (dk_at dksX0_dead_3 6 rfl rfl)
theorem dX0_dead_78 : decode cX0_dead 78 = .ok (.getfield 84, 3) := dk_180 0 84 (dk_at dksX0_dead_3 7 rfl rfl)
theorem dX0_dead_81 : decode cX0_dead 81 = .ok (.invokevirtual 1, 3) := dk_182 0 1 (dk_at dksX0_dead_3 10 rfl rfl)
theorem dX0_dead_84 : decode cX0_dead 84 = .ok (.ireturn, 1) := dk_172 (dk_at dksX0_dead_3 13 rfl rfl)
abbrev cX0_cause : ByteArray := prog_1_method_51_code
def yX0_cause : MethodName := ⟨RX0, "cause", "(III)I"⟩
def dkwX0_cause_2 : List UInt8 := [29, 154, 0, 11, 25, 4, 182, 0, 152, 167, 0, 8, 25, 4, 180, 0, 163, 172]
abbrev dktX0_cause_2 : List UInt8 := dkwX0_cause_2 ++ []
def dkwX0_cause_1 : List UInt8 := [172, 42, 180, 0, 16, 180, 0, 69, 27, 182, 0, 81, 192, 0, 82, 180, 0, 84, 28, 182, 0, 159, 58, 4]
abbrev dktX0_cause_1 : List UInt8 := dkwX0_cause_1 ++ dktX0_cause_2
def dkwX0_cause_0 : List UInt8 := [42, 27, 28, 182, 0, 155, 153, 0, 12, 29, 3, 4, 184, 0, 39, 154, 0, 10, 42, 16, 174, 182, 0, 104]
abbrev dktX0_cause_0 : List UInt8 := dkwX0_cause_0 ++ dktX0_cause_1
theorem dksX0_cause_0 : cX0_cause.data.toList.drop 0 = dktX0_cause_0 := by decide +kernel
theorem dksX0_cause_1 : cX0_cause.data.toList.drop 24 = dktX0_cause_1 := dk_seg dksX0_cause_0 24 rfl rfl
theorem dksX0_cause_2 : cX0_cause.data.toList.drop 48 = dktX0_cause_2 := dk_seg dksX0_cause_1 24 rfl rfl
theorem dX0_cause_0 : decode cX0_cause 0 = .ok (.aload_n 0, 1) := dk_42 (dk_at dksX0_cause_0 0 rfl rfl)
theorem dX0_cause_1 : decode cX0_cause 1 = .ok (.iload_n 1, 1) := dk_27 (dk_at dksX0_cause_0 1 rfl rfl)
theorem dX0_cause_2 : decode cX0_cause 2 = .ok (.iload_n 2, 1) := dk_28 (dk_at dksX0_cause_0 2 rfl rfl)
theorem dX0_cause_3 : decode cX0_cause 3 = .ok (.invokevirtual 155, 3) := dk_182 0 155 (dk_at dksX0_cause_0 3 rfl rfl)
theorem dX0_cause_6 : decode cX0_cause 6 = .ok (.ifCond .eq 12, 3) := dk_153 0 12 (dk_at dksX0_cause_0 6 rfl rfl)
theorem dX0_cause_9 : decode cX0_cause 9 = .ok (.iload_n 3, 1) := dk_29 (dk_at dksX0_cause_0 9 rfl rfl)
theorem dX0_cause_10 : decode cX0_cause 10 = .ok (.iconst 0, 1) := dk_3 (dk_at dksX0_cause_0 10 rfl rfl)
theorem dX0_cause_11 : decode cX0_cause 11 = .ok (.iconst 1, 1) := dk_4 (dk_at dksX0_cause_0 11 rfl rfl)
theorem dX0_cause_12 : decode cX0_cause 12 = .ok (.invokestatic 39, 3) := dk_184 0 39 (dk_at dksX0_cause_0 12 rfl rfl)
theorem dX0_cause_15 : decode cX0_cause 15 = .ok (.ifCond .ne 10, 3) := dk_154 0 10 (dk_at dksX0_cause_0 15 rfl rfl)
theorem dX0_cause_18 : decode cX0_cause 18 = .ok (.aload_n 0, 1) := dk_42 (dk_at dksX0_cause_0 18 rfl rfl)
theorem dX0_cause_19 : decode cX0_cause 19 = .ok (.bipush (-82), 2) := dk_16 174 (dk_at dksX0_cause_0 19 rfl rfl)
theorem dX0_cause_21 : decode cX0_cause 21 = .ok (.invokevirtual 104, 3) := dk_182 0 104 (dk_at dksX0_cause_0 21 rfl rfl)
theorem dX0_cause_24 : decode cX0_cause 24 = .ok (.ireturn, 1) := dk_172 (dk_at dksX0_cause_1 0 rfl rfl)
theorem dX0_cause_25 : decode cX0_cause 25 = .ok (.aload_n 0, 1) := dk_42 (dk_at dksX0_cause_1 1 rfl rfl)
theorem dX0_cause_26 : decode cX0_cause 26 = .ok (.getfield 16, 3) := dk_180 0 16 (dk_at dksX0_cause_1 2 rfl rfl)
theorem dX0_cause_29 : decode cX0_cause 29 = .ok (.getfield 69, 3) := dk_180 0 69 (dk_at dksX0_cause_1 5 rfl rfl)
theorem dX0_cause_32 : decode cX0_cause 32 = .ok (.iload_n 1, 1) := dk_27 (dk_at dksX0_cause_1 8 rfl rfl)
theorem dX0_cause_33 : decode cX0_cause 33 = .ok (.invokevirtual 81, 3) := dk_182 0 81 (dk_at dksX0_cause_1 9 rfl rfl)
theorem dX0_cause_36 : decode cX0_cause 36 = .ok (.checkcast 82, 3) := dk_192 0 82 (dk_at dksX0_cause_1 12 rfl rfl)
theorem dX0_cause_39 : decode cX0_cause 39 = .ok (.getfield 84, 3) := dk_180 0 84 (dk_at dksX0_cause_1 15 rfl rfl)
theorem dX0_cause_42 : decode cX0_cause 42 = .ok (.iload_n 2, 1) := dk_28 (dk_at dksX0_cause_1 18 rfl rfl)
theorem dX0_cause_43 : decode cX0_cause 43 = .ok (.invokevirtual 159, 3) := dk_182 0 159 (dk_at dksX0_cause_1 19 rfl rfl)
theorem dX0_cause_46 : decode cX0_cause 46 = .ok (.astore 4, 2) := dk_58 4 (dk_at dksX0_cause_1 22 rfl rfl)
theorem dX0_cause_48 : decode cX0_cause 48 = .ok (.iload_n 3, 1) := dk_29 (dk_at dksX0_cause_2 0 rfl rfl)
theorem dX0_cause_49 : decode cX0_cause 49 = .ok (.ifCond .ne 11, 3) := dk_154 0 11 (dk_at dksX0_cause_2 1 rfl rfl)
theorem dX0_cause_52 : decode cX0_cause 52 = .ok (.aload 4, 2) := dk_25 4 (dk_at dksX0_cause_2 4 rfl rfl)
theorem dX0_cause_54 : decode cX0_cause 54 = .ok (.invokevirtual 152, 3) := dk_182 0 152 (dk_at dksX0_cause_2 6 rfl rfl)
theorem dX0_cause_57 : decode cX0_cause 57 = .ok (.goto 8, 3) := dk_167 0 8 (dk_at dksX0_cause_2 9 rfl rfl)
theorem dX0_cause_60 : decode cX0_cause 60 = .ok (.aload 4, 2) := dk_25 4 (dk_at dksX0_cause_2 12 rfl rfl)
theorem dX0_cause_62 : decode cX0_cause 62 = .ok (.getfield 163, 3) := dk_180 0 163 (dk_at dksX0_cause_2 14 rfl rfl)
theorem dX0_cause_65 : decode cX0_cause 65 = .ok (.ireturn, 1) := dk_172 (dk_at dksX0_cause_2 17 rfl rfl)
abbrev cX0_fits : ByteArray := prog_1_method_52_code
def yX0_fits : MethodName := ⟨RX0, "fits", "()I"⟩
def dkwX0_fits_3 : List UInt8 := [180, 1, 152, 120, 167, 0, 4, 3, 128, 60, 167, 255, 207, 27, 172]
abbrev dktX0_fits_3 : List UInt8 := dkwX0_fits_3 ++ []
def dkwX0_fits_2 : List UInt8 := [192, 0, 76, 78, 27, 45, 180, 1, 146, 42, 180, 0, 16, 180, 0, 207, 182, 1, 148, 153, 0, 12, 4, 45]
abbrev dktX0_fits_2 : List UInt8 := dkwX0_fits_2 ++ dktX0_fits_3
def dkwX0_fits_1 : List UInt8 := [180, 0, 43, 182, 1, 81, 77, 44, 185, 1, 67, 1, 0, 153, 0, 46, 44, 185, 1, 72, 1, 0]
abbrev dktX0_fits_1 : List UInt8 := dkwX0_fits_1 ++ dktX0_fits_2
def dkwX0_fits_0 : List UInt8 := [42, 180, 0, 16, 180, 0, 207, 199, 0, 10, 42, 16, 171, 182, 0, 104, 172, 3, 60, 42, 180, 0, 16]
abbrev dktX0_fits_0 : List UInt8 := dkwX0_fits_0 ++ dktX0_fits_1
theorem dksX0_fits_0 : cX0_fits.data.toList.drop 0 = dktX0_fits_0 := by decide +kernel
theorem dksX0_fits_1 : cX0_fits.data.toList.drop 23 = dktX0_fits_1 := dk_seg dksX0_fits_0 23 rfl rfl
theorem dksX0_fits_2 : cX0_fits.data.toList.drop 45 = dktX0_fits_2 := dk_seg dksX0_fits_1 22 rfl rfl
theorem dksX0_fits_3 : cX0_fits.data.toList.drop 69 = dktX0_fits_3 := dk_seg dksX0_fits_2 24 rfl rfl
theorem dX0_fits_0 : decode cX0_fits 0 = .ok (.aload_n 0, 1) := dk_42 (dk_at dksX0_fits_0 0 rfl rfl)
theorem dX0_fits_1 : decode cX0_fits 1 = .ok (.getfield 16, 3) := dk_180 0 16 (dk_at dksX0_fits_0 1 rfl rfl)
theorem dX0_fits_4 : decode cX0_fits 4 = .ok (.getfield 207, 3) := dk_180 0 207 (dk_at dksX0_fits_0 4 rfl rfl)
theorem dX0_fits_7 : decode cX0_fits 7 = .ok (.ifnonnull 10, 3) := dk_199 0 10 (dk_at dksX0_fits_0 7 rfl rfl)
theorem dX0_fits_10 : decode cX0_fits 10 = .ok (.aload_n 0, 1) := dk_42 (dk_at dksX0_fits_0 10 rfl rfl)
theorem dX0_fits_11 : decode cX0_fits 11 = .ok (.bipush (-85), 2) := dk_16 171 (dk_at dksX0_fits_0 11 rfl rfl)
theorem dX0_fits_13 : decode cX0_fits 13 = .ok (.invokevirtual 104, 3) := dk_182 0 104 (dk_at dksX0_fits_0 13 rfl rfl)
theorem dX0_fits_16 : decode cX0_fits 16 = .ok (.ireturn, 1) := dk_172 (dk_at dksX0_fits_0 16 rfl rfl)
theorem dX0_fits_17 : decode cX0_fits 17 = .ok (.iconst 0, 1) := dk_3 (dk_at dksX0_fits_0 17 rfl rfl)
theorem dX0_fits_18 : decode cX0_fits 18 = .ok (.istore_n 1, 1) := dk_60 (dk_at dksX0_fits_0 18 rfl rfl)
theorem dX0_fits_19 : decode cX0_fits 19 = .ok (.aload_n 0, 1) := dk_42 (dk_at dksX0_fits_0 19 rfl rfl)
theorem dX0_fits_20 : decode cX0_fits 20 = .ok (.getfield 16, 3) := dk_180 0 16 (dk_at dksX0_fits_0 20 rfl rfl)
theorem dX0_fits_23 : decode cX0_fits 23 = .ok (.getfield 43, 3) := dk_180 0 43 (dk_at dksX0_fits_1 0 rfl rfl)
theorem dX0_fits_26 : decode cX0_fits 26 = .ok (.invokevirtual 337, 3) := dk_182 1 81 (dk_at dksX0_fits_1 3 rfl rfl)
theorem dX0_fits_29 : decode cX0_fits 29 = .ok (.astore_n 2, 1) := dk_77 (dk_at dksX0_fits_1 6 rfl rfl)
theorem dX0_fits_30 : decode cX0_fits 30 = .ok (.aload_n 2, 1) := dk_44 (dk_at dksX0_fits_1 7 rfl rfl)
theorem dX0_fits_31 : decode cX0_fits 31 = .ok (.invokeinterface 323 1, 5) := by decide +kernel
theorem dX0_fits_36 : decode cX0_fits 36 = .ok (.ifCond .eq 46, 3) := dk_153 0 46 (dk_at dksX0_fits_1 13 rfl rfl)
theorem dX0_fits_39 : decode cX0_fits 39 = .ok (.aload_n 2, 1) := dk_44 (dk_at dksX0_fits_1 16 rfl rfl)
theorem dX0_fits_40 : decode cX0_fits 40 = .ok (.invokeinterface 328 1, 5) := by decide +kernel
theorem dX0_fits_45 : decode cX0_fits 45 = .ok (.checkcast 76, 3) := dk_192 0 76 (dk_at dksX0_fits_2 0 rfl rfl)
theorem dX0_fits_48 : decode cX0_fits 48 = .ok (.astore_n 3, 1) := dk_78 (dk_at dksX0_fits_2 3 rfl rfl)
theorem dX0_fits_49 : decode cX0_fits 49 = .ok (.iload_n 1, 1) := dk_27 (dk_at dksX0_fits_2 4 rfl rfl)
theorem dX0_fits_50 : decode cX0_fits 50 = .ok (.aload_n 3, 1) := dk_45 (dk_at dksX0_fits_2 5 rfl rfl)
theorem dX0_fits_51 : decode cX0_fits 51 = .ok (.getfield 402, 3) := dk_180 1 146 (dk_at dksX0_fits_2 6 rfl rfl)
theorem dX0_fits_54 : decode cX0_fits 54 = .ok (.aload_n 0, 1) := dk_42 (dk_at dksX0_fits_2 9 rfl rfl)
theorem dX0_fits_55 : decode cX0_fits 55 = .ok (.getfield 16, 3) := dk_180 0 16 (dk_at dksX0_fits_2 10 rfl rfl)
theorem dX0_fits_58 : decode cX0_fits 58 = .ok (.getfield 207, 3) := dk_180 0 207 (dk_at dksX0_fits_2 13 rfl rfl)
theorem dX0_fits_61 : decode cX0_fits 61 = .ok (.invokevirtual 404, 3) := dk_182 1 148 (dk_at dksX0_fits_2 16 rfl rfl)
theorem dX0_fits_64 : decode cX0_fits 64 = .ok (.ifCond .eq 12, 3) := dk_153 0 12 (dk_at dksX0_fits_2 19 rfl rfl)
theorem dX0_fits_67 : decode cX0_fits 67 = .ok (.iconst 1, 1) := dk_4 (dk_at dksX0_fits_2 22 rfl rfl)
theorem dX0_fits_68 : decode cX0_fits 68 = .ok (.aload_n 3, 1) := dk_45 (dk_at dksX0_fits_2 23 rfl rfl)
theorem dX0_fits_69 : decode cX0_fits 69 = .ok (.getfield 408, 3) := dk_180 1 152 (dk_at dksX0_fits_3 0 rfl rfl)
theorem dX0_fits_72 : decode cX0_fits 72 = .ok (.ishl, 1) := dk_120 (dk_at dksX0_fits_3 3 rfl rfl)
theorem dX0_fits_73 : decode cX0_fits 73 = .ok (.goto 4, 3) := dk_167 0 4 (dk_at dksX0_fits_3 4 rfl rfl)
theorem dX0_fits_76 : decode cX0_fits 76 = .ok (.iconst 0, 1) := dk_3 (dk_at dksX0_fits_3 7 rfl rfl)
theorem dX0_fits_77 : decode cX0_fits 77 = .ok (.ior, 1) := dk_128 (dk_at dksX0_fits_3 8 rfl rfl)
theorem dX0_fits_78 : decode cX0_fits 78 = .ok (.istore_n 1, 1) := dk_60 (dk_at dksX0_fits_3 9 rfl rfl)
theorem dX0_fits_79 : decode cX0_fits 79 = .ok (.goto (-49), 3) := dk_167 255 207 (dk_at dksX0_fits_3 10 rfl rfl)
theorem dX0_fits_82 : decode cX0_fits 82 = .ok (.iload_n 1, 1) := dk_27 (dk_at dksX0_fits_3 13 rfl rfl)
theorem dX0_fits_83 : decode cX0_fits 83 = .ok (.ireturn, 1) := dk_172 (dk_at dksX0_fits_3 14 rfl rfl)
abbrev cX0_covers : ByteArray := prog_1_method_53_code
def yX0_covers : MethodName := ⟨RX0, "covers", "(II)I"⟩
def dkwX0_covers_2 : List UInt8 := [16, 174, 182, 0, 104, 172]
abbrev dktX0_covers_2 : List UInt8 := dkwX0_covers_2 ++ []
def dkwX0_covers_1 : List UInt8 := [42, 28, 182, 0, 239, 180, 1, 146, 182, 1, 148, 153, 0, 7, 4, 167, 0, 13, 3, 167, 0, 9, 42]
abbrev dktX0_covers_1 : List UInt8 := dkwX0_covers_1 ++ dktX0_covers_2
def dkwX0_covers_0 : List UInt8 := [42, 27, 182, 0, 236, 153, 0, 41, 42, 28, 182, 0, 236, 153, 0, 33, 42, 27, 182, 0, 239, 180, 1, 146]
abbrev dktX0_covers_0 : List UInt8 := dkwX0_covers_0 ++ dktX0_covers_1
theorem dksX0_covers_0 : cX0_covers.data.toList.drop 0 = dktX0_covers_0 := by decide +kernel
theorem dksX0_covers_1 : cX0_covers.data.toList.drop 24 = dktX0_covers_1 := dk_seg dksX0_covers_0 24 rfl rfl
theorem dksX0_covers_2 : cX0_covers.data.toList.drop 47 = dktX0_covers_2 := dk_seg dksX0_covers_1 23 rfl rfl
theorem dX0_covers_0 : decode cX0_covers 0 = .ok (.aload_n 0, 1) := dk_42 (dk_at dksX0_covers_0 0 rfl rfl)
theorem dX0_covers_1 : decode cX0_covers 1 = .ok (.iload_n 1, 1) := dk_27 (dk_at dksX0_covers_0 1 rfl rfl)
theorem dX0_covers_2 : decode cX0_covers 2 = .ok (.invokevirtual 236, 3) := dk_182 0 236 (dk_at dksX0_covers_0 2 rfl rfl)
theorem dX0_covers_5 : decode cX0_covers 5 = .ok (.ifCond .eq 41, 3) := dk_153 0 41 (dk_at dksX0_covers_0 5 rfl rfl)
theorem dX0_covers_8 : decode cX0_covers 8 = .ok (.aload_n 0, 1) := dk_42 (dk_at dksX0_covers_0 8 rfl rfl)
theorem dX0_covers_9 : decode cX0_covers 9 = .ok (.iload_n 2, 1) := dk_28 (dk_at dksX0_covers_0 9 rfl rfl)
theorem dX0_covers_10 : decode cX0_covers 10 = .ok (.invokevirtual 236, 3) := dk_182 0 236 (dk_at dksX0_covers_0 10 rfl rfl)
theorem dX0_covers_13 : decode cX0_covers 13 = .ok (.ifCond .eq 33, 3) := dk_153 0 33 (dk_at dksX0_covers_0 13 rfl rfl)
theorem dX0_covers_16 : decode cX0_covers 16 = .ok (.aload_n 0, 1) := dk_42 (dk_at dksX0_covers_0 16 rfl rfl)
theorem dX0_covers_17 : decode cX0_covers 17 = .ok (.iload_n 1, 1) := dk_27 (dk_at dksX0_covers_0 17 rfl rfl)
theorem dX0_covers_18 : decode cX0_covers 18 = .ok (.invokevirtual 239, 3) := dk_182 0 239 (dk_at dksX0_covers_0 18 rfl rfl)
theorem dX0_covers_21 : decode cX0_covers 21 = .ok (.getfield 402, 3) := dk_180 1 146 (dk_at dksX0_covers_0 21 rfl rfl)
theorem dX0_covers_24 : decode cX0_covers 24 = .ok (.aload_n 0, 1) := dk_42 (dk_at dksX0_covers_1 0 rfl rfl)
theorem dX0_covers_25 : decode cX0_covers 25 = .ok (.iload_n 2, 1) := dk_28 (dk_at dksX0_covers_1 1 rfl rfl)
theorem dX0_covers_26 : decode cX0_covers 26 = .ok (.invokevirtual 239, 3) := dk_182 0 239 (dk_at dksX0_covers_1 2 rfl rfl)
theorem dX0_covers_29 : decode cX0_covers 29 = .ok (.getfield 402, 3) := dk_180 1 146 (dk_at dksX0_covers_1 5 rfl rfl)
theorem dX0_covers_32 : decode cX0_covers 32 = .ok (.invokevirtual 404, 3) := dk_182 1 148 (dk_at dksX0_covers_1 8 rfl rfl)
theorem dX0_covers_35 : decode cX0_covers 35 = .ok (.ifCond .eq 7, 3) := dk_153 0 7 (dk_at dksX0_covers_1 11 rfl rfl)
theorem dX0_covers_38 : decode cX0_covers 38 = .ok (.iconst 1, 1) := dk_4 (dk_at dksX0_covers_1 14 rfl rfl)
theorem dX0_covers_39 : decode cX0_covers 39 = .ok (.goto 13, 3) := dk_167 0 13 (dk_at dksX0_covers_1 15 rfl rfl)
theorem dX0_covers_42 : decode cX0_covers 42 = .ok (.iconst 0, 1) := dk_3 (dk_at dksX0_covers_1 18 rfl rfl)
theorem dX0_covers_43 : decode cX0_covers 43 = .ok (.goto 9, 3) := dk_167 0 9 (dk_at dksX0_covers_1 19 rfl rfl)
theorem dX0_covers_46 : decode cX0_covers 46 = .ok (.aload_n 0, 1) := dk_42 (dk_at dksX0_covers_1 22 rfl rfl)
theorem dX0_covers_47 : decode cX0_covers 47 = .ok (.bipush (-82), 2) := dk_16 174 (dk_at dksX0_covers_2 0 rfl rfl)
theorem dX0_covers_49 : decode cX0_covers 49 = .ok (.invokevirtual 104, 3) := dk_182 0 104 (dk_at dksX0_covers_2 2 rfl rfl)
theorem dX0_covers_52 : decode cX0_covers 52 = .ok (.ireturn, 1) := dk_172 (dk_at dksX0_covers_2 5 rfl rfl)
abbrev cX0_pattern : ByteArray := prog_1_method_54_code
def yX0_pattern : MethodName := ⟨RX0, "pattern", "(II)I"⟩
def dkwX0_pattern_2 : List UInt8 := [167, 0, 4, 2, 172]
abbrev dktX0_pattern_2 : List UInt8 := dkwX0_pattern_2 ++ []
def dkwX0_pattern_1 : List UInt8 := [182, 1, 153, 78, 28, 3, 45, 182, 1, 157, 4, 100, 184, 0, 39, 153, 0, 11, 45, 28, 182, 1, 162]
abbrev dktX0_pattern_1 : List UInt8 := dkwX0_pattern_1 ++ dktX0_pattern_2
def dkwX0_pattern_0 : List UInt8 := [42, 27, 182, 0, 236, 154, 0, 10, 42, 16, 174, 182, 0, 104, 172, 42, 27, 182, 0, 239, 180, 1, 146]
abbrev dktX0_pattern_0 : List UInt8 := dkwX0_pattern_0 ++ dktX0_pattern_1
theorem dksX0_pattern_0 : cX0_pattern.data.toList.drop 0 = dktX0_pattern_0 := by decide +kernel
theorem dksX0_pattern_1 : cX0_pattern.data.toList.drop 23 = dktX0_pattern_1 := dk_seg dksX0_pattern_0 23 rfl rfl
theorem dksX0_pattern_2 : cX0_pattern.data.toList.drop 46 = dktX0_pattern_2 := dk_seg dksX0_pattern_1 23 rfl rfl
theorem dX0_pattern_0 : decode cX0_pattern 0 = .ok (.aload_n 0, 1) := dk_42 (dk_at dksX0_pattern_0 0 rfl rfl)
theorem dX0_pattern_1 : decode cX0_pattern 1 = .ok (.iload_n 1, 1) := dk_27 (dk_at dksX0_pattern_0 1 rfl rfl)
theorem dX0_pattern_2 : decode cX0_pattern 2 = .ok (.invokevirtual 236, 3) := dk_182 0 236 (dk_at dksX0_pattern_0 2 rfl rfl)
theorem dX0_pattern_5 : decode cX0_pattern 5 = .ok (.ifCond .ne 10, 3) := dk_154 0 10 (dk_at dksX0_pattern_0 5 rfl rfl)
theorem dX0_pattern_8 : decode cX0_pattern 8 = .ok (.aload_n 0, 1) := dk_42 (dk_at dksX0_pattern_0 8 rfl rfl)
theorem dX0_pattern_9 : decode cX0_pattern 9 = .ok (.bipush (-82), 2) := dk_16 174 (dk_at dksX0_pattern_0 9 rfl rfl)
theorem dX0_pattern_11 : decode cX0_pattern 11 = .ok (.invokevirtual 104, 3) := dk_182 0 104 (dk_at dksX0_pattern_0 11 rfl rfl)
theorem dX0_pattern_14 : decode cX0_pattern 14 = .ok (.ireturn, 1) := dk_172 (dk_at dksX0_pattern_0 14 rfl rfl)
theorem dX0_pattern_15 : decode cX0_pattern 15 = .ok (.aload_n 0, 1) := dk_42 (dk_at dksX0_pattern_0 15 rfl rfl)
theorem dX0_pattern_16 : decode cX0_pattern 16 = .ok (.iload_n 1, 1) := dk_27 (dk_at dksX0_pattern_0 16 rfl rfl)
theorem dX0_pattern_17 : decode cX0_pattern 17 = .ok (.invokevirtual 239, 3) := dk_182 0 239 (dk_at dksX0_pattern_0 17 rfl rfl)
theorem dX0_pattern_20 : decode cX0_pattern 20 = .ok (.getfield 402, 3) := dk_180 1 146 (dk_at dksX0_pattern_0 20 rfl rfl)
theorem dX0_pattern_23 : decode cX0_pattern 23 = .ok (.invokevirtual 409, 3) := dk_182 1 153 (dk_at dksX0_pattern_1 0 rfl rfl)
theorem dX0_pattern_26 : decode cX0_pattern 26 = .ok (.astore_n 3, 1) := dk_78 (dk_at dksX0_pattern_1 3 rfl rfl)
theorem dX0_pattern_27 : decode cX0_pattern 27 = .ok (.iload_n 2, 1) := dk_28 (dk_at dksX0_pattern_1 4 rfl rfl)
theorem dX0_pattern_28 : decode cX0_pattern 28 = .ok (.iconst 0, 1) := dk_3 (dk_at dksX0_pattern_1 5 rfl rfl)
theorem dX0_pattern_29 : decode cX0_pattern 29 = .ok (.aload_n 3, 1) := dk_45 (dk_at dksX0_pattern_1 6 rfl rfl)
theorem dX0_pattern_30 : decode cX0_pattern 30 = .ok (.invokevirtual 413, 3) := dk_182 1 157 (dk_at dksX0_pattern_1 7 rfl rfl)
theorem dX0_pattern_33 : decode cX0_pattern 33 = .ok (.iconst 1, 1) := dk_4 (dk_at dksX0_pattern_1 10 rfl rfl)
theorem dX0_pattern_34 : decode cX0_pattern 34 = .ok (.isub, 1) := dk_100 (dk_at dksX0_pattern_1 11 rfl rfl)
theorem dX0_pattern_35 : decode cX0_pattern 35 = .ok (.invokestatic 39, 3) := dk_184 0 39 (dk_at dksX0_pattern_1 12 rfl rfl)
theorem dX0_pattern_38 : decode cX0_pattern 38 = .ok (.ifCond .eq 11, 3) := dk_153 0 11 (dk_at dksX0_pattern_1 15 rfl rfl)
theorem dX0_pattern_41 : decode cX0_pattern 41 = .ok (.aload_n 3, 1) := dk_45 (dk_at dksX0_pattern_1 18 rfl rfl)
theorem dX0_pattern_42 : decode cX0_pattern 42 = .ok (.iload_n 2, 1) := dk_28 (dk_at dksX0_pattern_1 19 rfl rfl)
theorem dX0_pattern_43 : decode cX0_pattern 43 = .ok (.invokevirtual 418, 3) := dk_182 1 162 (dk_at dksX0_pattern_1 20 rfl rfl)
theorem dX0_pattern_46 : decode cX0_pattern 46 = .ok (.goto 4, 3) := dk_167 0 4 (dk_at dksX0_pattern_2 0 rfl rfl)
theorem dX0_pattern_49 : decode cX0_pattern 49 = .ok (.iconst (-1), 1) := dk_2 (dk_at dksX0_pattern_2 3 rfl rfl)
theorem dX0_pattern_50 : decode cX0_pattern 50 = .ok (.ireturn, 1) := dk_172 (dk_at dksX0_pattern_2 4 rfl rfl)
abbrev cX0_next : ByteArray := prog_1_method_55_code
def yX0_next : MethodName := ⟨RX0, "next", "(II)I"⟩
def dkwX0_next_3 : List UInt8 := [2, 167, 0, 8, 25, 4, 180, 1, 172, 172]
abbrev dktX0_next_3 : List UInt8 := dkwX0_next_3 ++ []
def dkwX0_next_2 : List UInt8 := [199, 0, 5, 2, 172, 28, 154, 0, 13, 45, 180, 1, 109, 180, 1, 110, 167, 0, 17, 25, 4, 199, 0, 7]
abbrev dktX0_next_2 : List UInt8 := dkwX0_next_2 ++ dktX0_next_3
def dkwX0_next_1 : List UInt8 := [42, 27, 182, 0, 239, 182, 1, 166, 78, 42, 180, 0, 16, 42, 27, 182, 0, 239, 182, 1, 169, 58, 4, 45]
abbrev dktX0_next_1 : List UInt8 := dkwX0_next_1 ++ dktX0_next_2
def dkwX0_next_0 : List UInt8 := [42, 27, 182, 0, 236, 153, 0, 12, 28, 3, 4, 184, 0, 39, 154, 0, 10, 42, 16, 174, 182, 0, 104, 172]
abbrev dktX0_next_0 : List UInt8 := dkwX0_next_0 ++ dktX0_next_1
theorem dksX0_next_0 : cX0_next.data.toList.drop 0 = dktX0_next_0 := by decide +kernel
theorem dksX0_next_1 : cX0_next.data.toList.drop 24 = dktX0_next_1 := dk_seg dksX0_next_0 24 rfl rfl
theorem dksX0_next_2 : cX0_next.data.toList.drop 48 = dktX0_next_2 := dk_seg dksX0_next_1 24 rfl rfl
theorem dksX0_next_3 : cX0_next.data.toList.drop 72 = dktX0_next_3 := dk_seg dksX0_next_2 24 rfl rfl
theorem dX0_next_0 : decode cX0_next 0 = .ok (.aload_n 0, 1) := dk_42 (dk_at dksX0_next_0 0 rfl rfl)
theorem dX0_next_1 : decode cX0_next 1 = .ok (.iload_n 1, 1) := dk_27 (dk_at dksX0_next_0 1 rfl rfl)
theorem dX0_next_2 : decode cX0_next 2 = .ok (.invokevirtual 236, 3) := dk_182 0 236 (dk_at dksX0_next_0 2 rfl rfl)
theorem dX0_next_5 : decode cX0_next 5 = .ok (.ifCond .eq 12, 3) := dk_153 0 12 (dk_at dksX0_next_0 5 rfl rfl)
theorem dX0_next_8 : decode cX0_next 8 = .ok (.iload_n 2, 1) := dk_28 (dk_at dksX0_next_0 8 rfl rfl)
theorem dX0_next_9 : decode cX0_next 9 = .ok (.iconst 0, 1) := dk_3 (dk_at dksX0_next_0 9 rfl rfl)
theorem dX0_next_10 : decode cX0_next 10 = .ok (.iconst 1, 1) := dk_4 (dk_at dksX0_next_0 10 rfl rfl)
theorem dX0_next_11 : decode cX0_next 11 = .ok (.invokestatic 39, 3) := dk_184 0 39 (dk_at dksX0_next_0 11 rfl rfl)
theorem dX0_next_14 : decode cX0_next 14 = .ok (.ifCond .ne 10, 3) := dk_154 0 10 (dk_at dksX0_next_0 14 rfl rfl)
theorem dX0_next_17 : decode cX0_next 17 = .ok (.aload_n 0, 1) := dk_42 (dk_at dksX0_next_0 17 rfl rfl)
theorem dX0_next_18 : decode cX0_next 18 = .ok (.bipush (-82), 2) := dk_16 174 (dk_at dksX0_next_0 18 rfl rfl)
theorem dX0_next_20 : decode cX0_next 20 = .ok (.invokevirtual 104, 3) := dk_182 0 104 (dk_at dksX0_next_0 20 rfl rfl)
theorem dX0_next_23 : decode cX0_next 23 = .ok (.ireturn, 1) := dk_172 (dk_at dksX0_next_0 23 rfl rfl)
theorem dX0_next_24 : decode cX0_next 24 = .ok (.aload_n 0, 1) := dk_42 (dk_at dksX0_next_1 0 rfl rfl)
theorem dX0_next_25 : decode cX0_next 25 = .ok (.iload_n 1, 1) := dk_27 (dk_at dksX0_next_1 1 rfl rfl)
theorem dX0_next_26 : decode cX0_next 26 = .ok (.invokevirtual 239, 3) := dk_182 0 239 (dk_at dksX0_next_1 2 rfl rfl)
theorem dX0_next_29 : decode cX0_next 29 = .ok (.invokevirtual 422, 3) := dk_182 1 166 (dk_at dksX0_next_1 5 rfl rfl)
theorem dX0_next_32 : decode cX0_next 32 = .ok (.astore_n 3, 1) := dk_78 (dk_at dksX0_next_1 8 rfl rfl)
theorem dX0_next_33 : decode cX0_next 33 = .ok (.aload_n 0, 1) := dk_42 (dk_at dksX0_next_1 9 rfl rfl)
theorem dX0_next_34 : decode cX0_next 34 = .ok (.getfield 16, 3) := dk_180 0 16 (dk_at dksX0_next_1 10 rfl rfl)
theorem dX0_next_37 : decode cX0_next 37 = .ok (.aload_n 0, 1) := dk_42 (dk_at dksX0_next_1 13 rfl rfl)
theorem dX0_next_38 : decode cX0_next 38 = .ok (.iload_n 1, 1) := dk_27 (dk_at dksX0_next_1 14 rfl rfl)
theorem dX0_next_39 : decode cX0_next 39 = .ok (.invokevirtual 239, 3) := dk_182 0 239 (dk_at dksX0_next_1 15 rfl rfl)
theorem dX0_next_42 : decode cX0_next 42 = .ok (.invokevirtual 425, 3) := dk_182 1 169 (dk_at dksX0_next_1 18 rfl rfl)
theorem dX0_next_45 : decode cX0_next 45 = .ok (.astore 4, 2) := dk_58 4 (dk_at dksX0_next_1 21 rfl rfl)
theorem dX0_next_47 : decode cX0_next 47 = .ok (.aload_n 3, 1) := dk_45 (dk_at dksX0_next_1 23 rfl rfl)
theorem dX0_next_48 : decode cX0_next 48 = .ok (.ifnonnull 5, 3) := dk_199 0 5 (dk_at dksX0_next_2 0 rfl rfl)
theorem dX0_next_51 : decode cX0_next 51 = .ok (.iconst (-1), 1) := dk_2 (dk_at dksX0_next_2 3 rfl rfl)
theorem dX0_next_52 : decode cX0_next 52 = .ok (.ireturn, 1) := dk_172 (dk_at dksX0_next_2 4 rfl rfl)
theorem dX0_next_53 : decode cX0_next 53 = .ok (.iload_n 2, 1) := dk_28 (dk_at dksX0_next_2 5 rfl rfl)
theorem dX0_next_54 : decode cX0_next 54 = .ok (.ifCond .ne 13, 3) := dk_154 0 13 (dk_at dksX0_next_2 6 rfl rfl)
theorem dX0_next_57 : decode cX0_next 57 = .ok (.aload_n 3, 1) := dk_45 (dk_at dksX0_next_2 9 rfl rfl)
theorem dX0_next_58 : decode cX0_next 58 = .ok (.getfield 365, 3) := dk_180 1 109 (dk_at dksX0_next_2 10 rfl rfl)
theorem dX0_next_61 : decode cX0_next 61 = .ok (.getfield 366, 3) := dk_180 1 110 (dk_at dksX0_next_2 13 rfl rfl)
theorem dX0_next_64 : decode cX0_next 64 = .ok (.goto 17, 3) := dk_167 0 17 (dk_at dksX0_next_2 16 rfl rfl)
theorem dX0_next_67 : decode cX0_next 67 = .ok (.aload 4, 2) := dk_25 4 (dk_at dksX0_next_2 19 rfl rfl)
theorem dX0_next_69 : decode cX0_next 69 = .ok (.ifnonnull 7, 3) := dk_199 0 7 (dk_at dksX0_next_2 21 rfl rfl)
theorem dX0_next_72 : decode cX0_next 72 = .ok (.iconst (-1), 1) := dk_2 (dk_at dksX0_next_3 0 rfl rfl)
theorem dX0_next_73 : decode cX0_next 73 = .ok (.goto 8, 3) := dk_167 0 8 (dk_at dksX0_next_3 1 rfl rfl)
theorem dX0_next_76 : decode cX0_next 76 = .ok (.aload 4, 2) := dk_25 4 (dk_at dksX0_next_3 4 rfl rfl)
theorem dX0_next_78 : decode cX0_next 78 = .ok (.getfield 428, 3) := dk_180 1 172 (dk_at dksX0_next_3 6 rfl rfl)
theorem dX0_next_81 : decode cX0_next 81 = .ok (.ireturn, 1) := dk_172 (dk_at dksX0_next_3 9 rfl rfl)
abbrev cX0_blocked : ByteArray := prog_1_method_56_code
def yX0_blocked : MethodName := ⟨RX0, "blocked", "(I)I"⟩
def dkwX0_blocked_3 : List UInt8 := [180, 1, 109, 180, 1, 129, 120, 2, 130, 126, 62, 167, 255, 219, 29, 172]
abbrev dktX0_blocked_3 : List UInt8 := dkwX0_blocked_3 ++ []
def dkwX0_blocked_2 : List UInt8 := [185, 1, 67, 1, 0, 153, 0, 33, 25, 4, 185, 1, 72, 1, 0, 192, 1, 50, 58, 5, 29, 4, 25, 5]
abbrev dktX0_blocked_2 : List UInt8 := dkwX0_blocked_2 ++ dktX0_blocked_3
def dkwX0_blocked_1 : List UInt8 := [186, 1, 173, 0, 0, 182, 1, 176, 62, 44, 182, 1, 89, 182, 1, 179, 58, 4, 25, 4]
abbrev dktX0_blocked_1 : List UInt8 := dkwX0_blocked_1 ++ dktX0_blocked_2
def dkwX0_blocked_0 : List UInt8 := [42, 27, 182, 0, 236, 154, 0, 10, 42, 16, 174, 182, 0, 104, 172, 42, 27, 182, 0, 239, 77, 44]
abbrev dktX0_blocked_0 : List UInt8 := dkwX0_blocked_0 ++ dktX0_blocked_1
theorem dksX0_blocked_0 : cX0_blocked.data.toList.drop 0 = dktX0_blocked_0 := by decide +kernel
theorem dksX0_blocked_1 : cX0_blocked.data.toList.drop 22 = dktX0_blocked_1 := dk_seg dksX0_blocked_0 22 rfl rfl
theorem dksX0_blocked_2 : cX0_blocked.data.toList.drop 42 = dktX0_blocked_2 := dk_seg dksX0_blocked_1 20 rfl rfl
theorem dksX0_blocked_3 : cX0_blocked.data.toList.drop 66 = dktX0_blocked_3 := dk_seg dksX0_blocked_2 24 rfl rfl
theorem dX0_blocked_0 : decode cX0_blocked 0 = .ok (.aload_n 0, 1) := dk_42 (dk_at dksX0_blocked_0 0 rfl rfl)
theorem dX0_blocked_1 : decode cX0_blocked 1 = .ok (.iload_n 1, 1) := dk_27 (dk_at dksX0_blocked_0 1 rfl rfl)
theorem dX0_blocked_2 : decode cX0_blocked 2 = .ok (.invokevirtual 236, 3) := dk_182 0 236 (dk_at dksX0_blocked_0 2 rfl rfl)
theorem dX0_blocked_5 : decode cX0_blocked 5 = .ok (.ifCond .ne 10, 3) := dk_154 0 10 (dk_at dksX0_blocked_0 5 rfl rfl)
theorem dX0_blocked_8 : decode cX0_blocked 8 = .ok (.aload_n 0, 1) := dk_42 (dk_at dksX0_blocked_0 8 rfl rfl)
theorem dX0_blocked_9 : decode cX0_blocked 9 = .ok (.bipush (-82), 2) := dk_16 174 (dk_at dksX0_blocked_0 9 rfl rfl)
theorem dX0_blocked_11 : decode cX0_blocked 11 = .ok (.invokevirtual 104, 3) := dk_182 0 104 (dk_at dksX0_blocked_0 11 rfl rfl)
theorem dX0_blocked_14 : decode cX0_blocked 14 = .ok (.ireturn, 1) := dk_172 (dk_at dksX0_blocked_0 14 rfl rfl)
theorem dX0_blocked_15 : decode cX0_blocked 15 = .ok (.aload_n 0, 1) := dk_42 (dk_at dksX0_blocked_0 15 rfl rfl)
theorem dX0_blocked_16 : decode cX0_blocked 16 = .ok (.iload_n 1, 1) := dk_27 (dk_at dksX0_blocked_0 16 rfl rfl)
theorem dX0_blocked_17 : decode cX0_blocked 17 = .ok (.invokevirtual 239, 3) := dk_182 0 239 (dk_at dksX0_blocked_0 17 rfl rfl)
theorem dX0_blocked_20 : decode cX0_blocked 20 = .ok (.astore_n 2, 1) := dk_77 (dk_at dksX0_blocked_0 20 rfl rfl)
theorem dX0_blocked_21 : decode cX0_blocked 21 = .ok (.aload_n 2, 1) := dk_44 (dk_at dksX0_blocked_0 21 rfl rfl)
theorem dX0_blocked_22 : decode cX0_blocked 22 = .ok (.invokedynamic 429, 5) := by decide +kernel
theorem dX0_blocked_27 : decode cX0_blocked 27 = .ok (.invokevirtual 432, 3) := dk_182 1 176 (dk_at dksX0_blocked_1 5 rfl rfl)
theorem dX0_blocked_30 : decode cX0_blocked 30 = .ok (.istore_n 3, 1) := dk_62 (dk_at dksX0_blocked_1 8 rfl rfl)
theorem dX0_blocked_31 : decode cX0_blocked 31 = .ok (.aload_n 2, 1) := dk_44 (dk_at dksX0_blocked_1 9 rfl rfl)
theorem dX0_blocked_32 : decode cX0_blocked 32 = .ok (.invokevirtual 345, 3) := dk_182 1 89 (dk_at dksX0_blocked_1 10 rfl rfl)
theorem dX0_blocked_35 : decode cX0_blocked 35 = .ok (.invokevirtual 435, 3) := dk_182 1 179 (dk_at dksX0_blocked_1 13 rfl rfl)
theorem dX0_blocked_38 : decode cX0_blocked 38 = .ok (.astore 4, 2) := dk_58 4 (dk_at dksX0_blocked_1 16 rfl rfl)
theorem dX0_blocked_40 : decode cX0_blocked 40 = .ok (.aload 4, 2) := dk_25 4 (dk_at dksX0_blocked_1 18 rfl rfl)
theorem dX0_blocked_42 : decode cX0_blocked 42 = .ok (.invokeinterface 323 1, 5) := by decide +kernel
theorem dX0_blocked_47 : decode cX0_blocked 47 = .ok (.ifCond .eq 33, 3) := dk_153 0 33 (dk_at dksX0_blocked_2 5 rfl rfl)
theorem dX0_blocked_50 : decode cX0_blocked 50 = .ok (.aload 4, 2) := dk_25 4 (dk_at dksX0_blocked_2 8 rfl rfl)
theorem dX0_blocked_52 : decode cX0_blocked 52 = .ok (.invokeinterface 328 1, 5) := by decide +kernel
theorem dX0_blocked_57 : decode cX0_blocked 57 = .ok (.checkcast 306, 3) := dk_192 1 50 (dk_at dksX0_blocked_2 15 rfl rfl)
theorem dX0_blocked_60 : decode cX0_blocked 60 = .ok (.astore 5, 2) := dk_58 5 (dk_at dksX0_blocked_2 18 rfl rfl)
theorem dX0_blocked_62 : decode cX0_blocked 62 = .ok (.iload_n 3, 1) := dk_29 (dk_at dksX0_blocked_2 20 rfl rfl)
theorem dX0_blocked_63 : decode cX0_blocked 63 = .ok (.iconst 1, 1) := dk_4 (dk_at dksX0_blocked_2 21 rfl rfl)
theorem dX0_blocked_64 : decode cX0_blocked 64 = .ok (.aload 5, 2) := dk_25 5 (dk_at dksX0_blocked_2 22 rfl rfl)
theorem dX0_blocked_66 : decode cX0_blocked 66 = .ok (.getfield 365, 3) := dk_180 1 109 (dk_at dksX0_blocked_3 0 rfl rfl)
theorem dX0_blocked_69 : decode cX0_blocked 69 = .ok (.getfield 385, 3) := dk_180 1 129 (dk_at dksX0_blocked_3 3 rfl rfl)
theorem dX0_blocked_72 : decode cX0_blocked 72 = .ok (.ishl, 1) := dk_120 (dk_at dksX0_blocked_3 6 rfl rfl)
theorem dX0_blocked_73 : decode cX0_blocked 73 = .ok (.iconst (-1), 1) := dk_2 (dk_at dksX0_blocked_3 7 rfl rfl)
theorem dX0_blocked_74 : decode cX0_blocked 74 = .ok (.ixor, 1) := dk_130 (dk_at dksX0_blocked_3 8 rfl rfl)
theorem dX0_blocked_75 : decode cX0_blocked 75 = .ok (.iand, 1) := dk_126 (dk_at dksX0_blocked_3 9 rfl rfl)
theorem dX0_blocked_76 : decode cX0_blocked 76 = .ok (.istore_n 3, 1) := dk_62 (dk_at dksX0_blocked_3 10 rfl rfl)
theorem dX0_blocked_77 : decode cX0_blocked 77 = .ok (.goto (-37), 3) := dk_167 255 219 (dk_at dksX0_blocked_3 11 rfl rfl)
theorem dX0_blocked_80 : decode cX0_blocked 80 = .ok (.iload_n 3, 1) := dk_29 (dk_at dksX0_blocked_3 14 rfl rfl)
theorem dX0_blocked_81 : decode cX0_blocked 81 = .ok (.ireturn, 1) := dk_172 (dk_at dksX0_blocked_3 15 rfl rfl)
abbrev cX0_lambda_blocked_4 : ByteArray := prog_1_method_73_code
def yX0_lambda_blocked_4 : MethodName := ⟨RX0, "lambda$blocked$4", "(LCreditBroker$Letter;)Z"⟩
def dkwX0_lambda_blocked_4_0 : List UInt8 := [42, 180, 1, 82, 154, 0, 7, 4, 167, 0, 4, 3, 172]
abbrev dktX0_lambda_blocked_4_0 : List UInt8 := dkwX0_lambda_blocked_4_0 ++ []
theorem dksX0_lambda_blocked_4_0 : cX0_lambda_blocked_4.data.toList.drop 0 = dktX0_lambda_blocked_4_0 := by decide +kernel
theorem dX0_lambda_blocked_4_0 : decode cX0_lambda_blocked_4 0 = .ok (.aload_n 0, 1) := dk_42 (dk_at dksX0_lambda_blocked_4_0 0 rfl rfl)
theorem dX0_lambda_blocked_4_1 : decode cX0_lambda_blocked_4 1 = .ok (.getfield 338, 3) := dk_180 1 82 (dk_at dksX0_lambda_blocked_4_0 1 rfl rfl)
theorem dX0_lambda_blocked_4_4 : decode cX0_lambda_blocked_4 4 = .ok (.ifCond .ne 7, 3) := dk_154 0 7 (dk_at dksX0_lambda_blocked_4_0 4 rfl rfl)
theorem dX0_lambda_blocked_4_7 : decode cX0_lambda_blocked_4 7 = .ok (.iconst 1, 1) := dk_4 (dk_at dksX0_lambda_blocked_4_0 7 rfl rfl)
theorem dX0_lambda_blocked_4_8 : decode cX0_lambda_blocked_4 8 = .ok (.goto 4, 3) := dk_167 0 4 (dk_at dksX0_lambda_blocked_4_0 8 rfl rfl)
theorem dX0_lambda_blocked_4_11 : decode cX0_lambda_blocked_4 11 = .ok (.iconst 0, 1) := dk_3 (dk_at dksX0_lambda_blocked_4_0 11 rfl rfl)
theorem dX0_lambda_blocked_4_12 : decode cX0_lambda_blocked_4 12 = .ok (.ireturn, 1) := dk_172 (dk_at dksX0_lambda_blocked_4_0 12 rfl rfl)
abbrev cX0_drained : ByteArray := prog_1_method_57_code
def yX0_drained : MethodName := ⟨RX0, "drained", "(II)I"⟩
def dkwX0_drained_3 : List UInt8 := [167, 255, 220, 2, 172]
abbrev dktX0_drained_3 : List UInt8 := dkwX0_drained_3 ++ []
def dkwX0_drained_2 : List UInt8 := [185, 1, 72, 1, 0, 192, 1, 187, 182, 1, 189, 54, 5, 29, 28, 160, 0, 6, 21, 5, 172, 132, 3, 1]
abbrev dktX0_drained_2 : List UInt8 := dkwX0_drained_2 ++ dktX0_drained_3
def dkwX0_drained_1 : List UInt8 := [182, 1, 180, 182, 1, 184, 58, 4, 25, 4, 185, 1, 67, 1, 0, 153, 0, 32, 25, 4]
abbrev dktX0_drained_1 : List UInt8 := dkwX0_drained_1 ++ dktX0_drained_2
def dkwX0_drained_0 : List UInt8 := [42, 27, 182, 0, 236, 154, 0, 10, 42, 16, 174, 182, 0, 104, 172, 3, 62, 42, 27, 182, 0, 239]
abbrev dktX0_drained_0 : List UInt8 := dkwX0_drained_0 ++ dktX0_drained_1
theorem dksX0_drained_0 : cX0_drained.data.toList.drop 0 = dktX0_drained_0 := by decide +kernel
theorem dksX0_drained_1 : cX0_drained.data.toList.drop 22 = dktX0_drained_1 := dk_seg dksX0_drained_0 22 rfl rfl
theorem dksX0_drained_2 : cX0_drained.data.toList.drop 42 = dktX0_drained_2 := dk_seg dksX0_drained_1 20 rfl rfl
theorem dksX0_drained_3 : cX0_drained.data.toList.drop 66 = dktX0_drained_3 := dk_seg dksX0_drained_2 24 rfl rfl
theorem dX0_drained_0 : decode cX0_drained 0 = .ok (.aload_n 0, 1) := dk_42 (dk_at dksX0_drained_0 0 rfl rfl)
theorem dX0_drained_1 : decode cX0_drained 1 = .ok (.iload_n 1, 1) := dk_27 (dk_at dksX0_drained_0 1 rfl rfl)
theorem dX0_drained_2 : decode cX0_drained 2 = .ok (.invokevirtual 236, 3) := dk_182 0 236 (dk_at dksX0_drained_0 2 rfl rfl)
theorem dX0_drained_5 : decode cX0_drained 5 = .ok (.ifCond .ne 10, 3) := dk_154 0 10 (dk_at dksX0_drained_0 5 rfl rfl)
theorem dX0_drained_8 : decode cX0_drained 8 = .ok (.aload_n 0, 1) := dk_42 (dk_at dksX0_drained_0 8 rfl rfl)
theorem dX0_drained_9 : decode cX0_drained 9 = .ok (.bipush (-82), 2) := dk_16 174 (dk_at dksX0_drained_0 9 rfl rfl)
theorem dX0_drained_11 : decode cX0_drained 11 = .ok (.invokevirtual 104, 3) := dk_182 0 104 (dk_at dksX0_drained_0 11 rfl rfl)
theorem dX0_drained_14 : decode cX0_drained 14 = .ok (.ireturn, 1) := dk_172 (dk_at dksX0_drained_0 14 rfl rfl)
theorem dX0_drained_15 : decode cX0_drained 15 = .ok (.iconst 0, 1) := dk_3 (dk_at dksX0_drained_0 15 rfl rfl)
theorem dX0_drained_16 : decode cX0_drained 16 = .ok (.istore_n 3, 1) := dk_62 (dk_at dksX0_drained_0 16 rfl rfl)
theorem dX0_drained_17 : decode cX0_drained 17 = .ok (.aload_n 0, 1) := dk_42 (dk_at dksX0_drained_0 17 rfl rfl)
theorem dX0_drained_18 : decode cX0_drained 18 = .ok (.iload_n 1, 1) := dk_27 (dk_at dksX0_drained_0 18 rfl rfl)
theorem dX0_drained_19 : decode cX0_drained 19 = .ok (.invokevirtual 239, 3) := dk_182 0 239 (dk_at dksX0_drained_0 19 rfl rfl)
theorem dX0_drained_22 : decode cX0_drained 22 = .ok (.invokevirtual 436, 3) := dk_182 1 180 (dk_at dksX0_drained_1 0 rfl rfl)
theorem dX0_drained_25 : decode cX0_drained 25 = .ok (.invokevirtual 440, 3) := dk_182 1 184 (dk_at dksX0_drained_1 3 rfl rfl)
theorem dX0_drained_28 : decode cX0_drained 28 = .ok (.astore 4, 2) := dk_58 4 (dk_at dksX0_drained_1 6 rfl rfl)
theorem dX0_drained_30 : decode cX0_drained 30 = .ok (.aload 4, 2) := dk_25 4 (dk_at dksX0_drained_1 8 rfl rfl)
theorem dX0_drained_32 : decode cX0_drained 32 = .ok (.invokeinterface 323 1, 5) := by decide +kernel
theorem dX0_drained_37 : decode cX0_drained 37 = .ok (.ifCond .eq 32, 3) := dk_153 0 32 (dk_at dksX0_drained_1 15 rfl rfl)
theorem dX0_drained_40 : decode cX0_drained 40 = .ok (.aload 4, 2) := dk_25 4 (dk_at dksX0_drained_1 18 rfl rfl)
theorem dX0_drained_42 : decode cX0_drained 42 = .ok (.invokeinterface 328 1, 5) := by decide +kernel
theorem dX0_drained_47 : decode cX0_drained 47 = .ok (.checkcast 443, 3) := dk_192 1 187 (dk_at dksX0_drained_2 5 rfl rfl)
theorem dX0_drained_50 : decode cX0_drained 50 = .ok (.invokevirtual 445, 3) := dk_182 1 189 (dk_at dksX0_drained_2 8 rfl rfl)
theorem dX0_drained_53 : decode cX0_drained 53 = .ok (.istore 5, 2) := dk_54 5 (dk_at dksX0_drained_2 11 rfl rfl)
theorem dX0_drained_55 : decode cX0_drained 55 = .ok (.iload_n 3, 1) := dk_29 (dk_at dksX0_drained_2 13 rfl rfl)
theorem dX0_drained_56 : decode cX0_drained 56 = .ok (.iload_n 2, 1) := dk_28 (dk_at dksX0_drained_2 14 rfl rfl)
theorem dX0_drained_57 : decode cX0_drained 57 = .ok (.if_icmp .ne 6, 3) := dk_160 0 6 (dk_at dksX0_drained_2 15 rfl rfl)
theorem dX0_drained_60 : decode cX0_drained 60 = .ok (.iload 5, 2) := dk_21 5 (dk_at dksX0_drained_2 18 rfl rfl)
theorem dX0_drained_62 : decode cX0_drained 62 = .ok (.ireturn, 1) := dk_172 (dk_at dksX0_drained_2 20 rfl rfl)
theorem dX0_drained_63 : decode cX0_drained 63 = .ok (.iinc 3 1, 3) := dk_132 3 1 (dk_at dksX0_drained_2 21 rfl rfl)
theorem dX0_drained_66 : decode cX0_drained 66 = .ok (.goto (-36), 3) := dk_167 255 220 (dk_at dksX0_drained_3 0 rfl rfl)
theorem dX0_drained_69 : decode cX0_drained 69 = .ok (.iconst (-1), 1) := dk_2 (dk_at dksX0_drained_3 3 rfl rfl)
theorem dX0_drained_70 : decode cX0_drained 70 = .ok (.ireturn, 1) := dk_172 (dk_at dksX0_drained_3 4 rfl rfl)
abbrev cX0_until : ByteArray := prog_1_method_59_code
def yX0_until : MethodName := ⟨RX0, "until", "(I)I"⟩
def dkwX0_until_2 : List UInt8 := [44, 182, 1, 38, 87, 132, 3, 1, 167, 255, 223, 2, 172]
abbrev dktX0_until_2 : List UInt8 := dkwX0_until_2 ++ []
def dkwX0_until_1 : List UInt8 := [16, 99, 163, 0, 33, 44, 180, 0, 43, 27, 182, 0, 59, 192, 0, 76, 182, 1, 166, 198, 0, 5, 29, 172]
abbrev dktX0_until_1 : List UInt8 := dkwX0_until_1 ++ dktX0_until_2
def dkwX0_until_0 : List UInt8 := [42, 27, 182, 0, 236, 154, 0, 10, 42, 16, 174, 182, 0, 104, 172, 42, 182, 1, 196, 77, 3, 62, 29]
abbrev dktX0_until_0 : List UInt8 := dkwX0_until_0 ++ dktX0_until_1
theorem dksX0_until_0 : cX0_until.data.toList.drop 0 = dktX0_until_0 := by decide +kernel
theorem dksX0_until_1 : cX0_until.data.toList.drop 23 = dktX0_until_1 := dk_seg dksX0_until_0 23 rfl rfl
theorem dksX0_until_2 : cX0_until.data.toList.drop 47 = dktX0_until_2 := dk_seg dksX0_until_1 24 rfl rfl
theorem dX0_until_0 : decode cX0_until 0 = .ok (.aload_n 0, 1) := dk_42 (dk_at dksX0_until_0 0 rfl rfl)
theorem dX0_until_1 : decode cX0_until 1 = .ok (.iload_n 1, 1) := dk_27 (dk_at dksX0_until_0 1 rfl rfl)
theorem dX0_until_2 : decode cX0_until 2 = .ok (.invokevirtual 236, 3) := dk_182 0 236 (dk_at dksX0_until_0 2 rfl rfl)
theorem dX0_until_5 : decode cX0_until 5 = .ok (.ifCond .ne 10, 3) := dk_154 0 10 (dk_at dksX0_until_0 5 rfl rfl)
theorem dX0_until_8 : decode cX0_until 8 = .ok (.aload_n 0, 1) := dk_42 (dk_at dksX0_until_0 8 rfl rfl)
theorem dX0_until_9 : decode cX0_until 9 = .ok (.bipush (-82), 2) := dk_16 174 (dk_at dksX0_until_0 9 rfl rfl)
theorem dX0_until_11 : decode cX0_until 11 = .ok (.invokevirtual 104, 3) := dk_182 0 104 (dk_at dksX0_until_0 11 rfl rfl)
theorem dX0_until_14 : decode cX0_until 14 = .ok (.ireturn, 1) := dk_172 (dk_at dksX0_until_0 14 rfl rfl)
theorem dX0_until_15 : decode cX0_until 15 = .ok (.aload_n 0, 1) := dk_42 (dk_at dksX0_until_0 15 rfl rfl)
theorem dX0_until_16 : decode cX0_until 16 = .ok (.invokevirtual 452, 3) := dk_182 1 196 (dk_at dksX0_until_0 16 rfl rfl)
theorem dX0_until_19 : decode cX0_until 19 = .ok (.astore_n 2, 1) := dk_77 (dk_at dksX0_until_0 19 rfl rfl)
theorem dX0_until_20 : decode cX0_until 20 = .ok (.iconst 0, 1) := dk_3 (dk_at dksX0_until_0 20 rfl rfl)
theorem dX0_until_21 : decode cX0_until 21 = .ok (.istore_n 3, 1) := dk_62 (dk_at dksX0_until_0 21 rfl rfl)
theorem dX0_until_22 : decode cX0_until 22 = .ok (.iload_n 3, 1) := dk_29 (dk_at dksX0_until_0 22 rfl rfl)
theorem dX0_until_23 : decode cX0_until 23 = .ok (.bipush 99, 2) := dk_16 99 (dk_at dksX0_until_1 0 rfl rfl)
theorem dX0_until_25 : decode cX0_until 25 = .ok (.if_icmp .gt 33, 3) := dk_163 0 33 (dk_at dksX0_until_1 2 rfl rfl)
theorem dX0_until_28 : decode cX0_until 28 = .ok (.aload_n 2, 1) := dk_44 (dk_at dksX0_until_1 5 rfl rfl)
theorem dX0_until_29 : decode cX0_until 29 = .ok (.getfield 43, 3) := dk_180 0 43 (dk_at dksX0_until_1 6 rfl rfl)
theorem dX0_until_32 : decode cX0_until 32 = .ok (.iload_n 1, 1) := dk_27 (dk_at dksX0_until_1 9 rfl rfl)
theorem dX0_until_33 : decode cX0_until 33 = .ok (.invokevirtual 59, 3) := dk_182 0 59 (dk_at dksX0_until_1 10 rfl rfl)
theorem dX0_until_36 : decode cX0_until 36 = .ok (.checkcast 76, 3) := dk_192 0 76 (dk_at dksX0_until_1 13 rfl rfl)
theorem dX0_until_39 : decode cX0_until 39 = .ok (.invokevirtual 422, 3) := dk_182 1 166 (dk_at dksX0_until_1 16 rfl rfl)
theorem dX0_until_42 : decode cX0_until 42 = .ok (.ifnull 5, 3) := dk_198 0 5 (dk_at dksX0_until_1 19 rfl rfl)
theorem dX0_until_45 : decode cX0_until 45 = .ok (.iload_n 3, 1) := dk_29 (dk_at dksX0_until_1 22 rfl rfl)
theorem dX0_until_46 : decode cX0_until 46 = .ok (.ireturn, 1) := dk_172 (dk_at dksX0_until_1 23 rfl rfl)
theorem dX0_until_47 : decode cX0_until 47 = .ok (.aload_n 2, 1) := dk_44 (dk_at dksX0_until_2 0 rfl rfl)
theorem dX0_until_48 : decode cX0_until 48 = .ok (.invokevirtual 294, 3) := dk_182 1 38 (dk_at dksX0_until_2 1 rfl rfl)
theorem dX0_until_51 : decode cX0_until 51 = .ok (.pop, 1) := dk_87 (dk_at dksX0_until_2 4 rfl rfl)
theorem dX0_until_52 : decode cX0_until 52 = .ok (.iinc 3 1, 3) := dk_132 3 1 (dk_at dksX0_until_2 5 rfl rfl)
theorem dX0_until_55 : decode cX0_until 55 = .ok (.goto (-33), 3) := dk_167 255 223 (dk_at dksX0_until_2 8 rfl rfl)
theorem dX0_until_58 : decode cX0_until 58 = .ok (.iconst (-1), 1) := dk_2 (dk_at dksX0_until_2 11 rfl rfl)
theorem dX0_until_59 : decode cX0_until 59 = .ok (.ireturn, 1) := dk_172 (dk_at dksX0_until_2 12 rfl rfl)
abbrev cX0_copied : ByteArray := prog_1_method_58_code
def yX0_copied : MethodName := ⟨RX0, "copied", "()LCreditBroker$World;"⟩
def dkwX0_copied_0 : List UInt8 := [187, 0, 13, 89, 183, 0, 15, 42, 180, 0, 16, 182, 1, 192, 176]
abbrev dktX0_copied_0 : List UInt8 := dkwX0_copied_0 ++ []
theorem dksX0_copied_0 : cX0_copied.data.toList.drop 0 = dktX0_copied_0 := by decide +kernel
theorem dX0_copied_0 : decode cX0_copied 0 = .ok (.new 13, 3) := dk_187 0 13 (dk_at dksX0_copied_0 0 rfl rfl)
theorem dX0_copied_3 : decode cX0_copied 3 = .ok (.dup, 1) := dk_89 (dk_at dksX0_copied_0 3 rfl rfl)
theorem dX0_copied_4 : decode cX0_copied 4 = .ok (.invokespecial 15, 3) := dk_183 0 15 (dk_at dksX0_copied_0 4 rfl rfl)
theorem dX0_copied_7 : decode cX0_copied 7 = .ok (.aload_n 0, 1) := dk_42 (dk_at dksX0_copied_0 7 rfl rfl)
theorem dX0_copied_8 : decode cX0_copied 8 = .ok (.getfield 16, 3) := dk_180 0 16 (dk_at dksX0_copied_0 8 rfl rfl)
theorem dX0_copied_11 : decode cX0_copied 11 = .ok (.invokevirtual 448, 3) := dk_182 1 192 (dk_at dksX0_copied_0 11 rfl rfl)
theorem dX0_copied_14 : decode cX0_copied 14 = .ok (.areturn, 1) := dk_176 (dk_at dksX0_copied_0 14 rfl rfl)
abbrev cX0_doomed : ByteArray := prog_1_method_60_code
def yX0_doomed : MethodName := ⟨RX0, "doomed", "(I)I"⟩
def dkwX0_doomed_1 : List UInt8 := [3, 54, 4, 21, 4, 27, 162, 0, 16, 29, 44, 182, 1, 38, 96, 62, 132, 4, 1, 167, 255, 240, 29, 172]
abbrev dktX0_doomed_1 : List UInt8 := dkwX0_doomed_1 ++ []
def dkwX0_doomed_0 : List UInt8 := [27, 3, 16, 99, 184, 0, 39, 154, 0, 10, 42, 16, 174, 182, 0, 104, 172, 42, 182, 1, 196, 77, 3, 62]
abbrev dktX0_doomed_0 : List UInt8 := dkwX0_doomed_0 ++ dktX0_doomed_1
theorem dksX0_doomed_0 : cX0_doomed.data.toList.drop 0 = dktX0_doomed_0 := by decide +kernel
theorem dksX0_doomed_1 : cX0_doomed.data.toList.drop 24 = dktX0_doomed_1 := dk_seg dksX0_doomed_0 24 rfl rfl
theorem dX0_doomed_0 : decode cX0_doomed 0 = .ok (.iload_n 1, 1) := dk_27 (dk_at dksX0_doomed_0 0 rfl rfl)
theorem dX0_doomed_1 : decode cX0_doomed 1 = .ok (.iconst 0, 1) := dk_3 (dk_at dksX0_doomed_0 1 rfl rfl)
theorem dX0_doomed_2 : decode cX0_doomed 2 = .ok (.bipush 99, 2) := dk_16 99 (dk_at dksX0_doomed_0 2 rfl rfl)
theorem dX0_doomed_4 : decode cX0_doomed 4 = .ok (.invokestatic 39, 3) := dk_184 0 39 (dk_at dksX0_doomed_0 4 rfl rfl)
theorem dX0_doomed_7 : decode cX0_doomed 7 = .ok (.ifCond .ne 10, 3) := dk_154 0 10 (dk_at dksX0_doomed_0 7 rfl rfl)
theorem dX0_doomed_10 : decode cX0_doomed 10 = .ok (.aload_n 0, 1) := dk_42 (dk_at dksX0_doomed_0 10 rfl rfl)
theorem dX0_doomed_11 : decode cX0_doomed 11 = .ok (.bipush (-82), 2) := dk_16 174 (dk_at dksX0_doomed_0 11 rfl rfl)
theorem dX0_doomed_13 : decode cX0_doomed 13 = .ok (.invokevirtual 104, 3) := dk_182 0 104 (dk_at dksX0_doomed_0 13 rfl rfl)
theorem dX0_doomed_16 : decode cX0_doomed 16 = .ok (.ireturn, 1) := dk_172 (dk_at dksX0_doomed_0 16 rfl rfl)
theorem dX0_doomed_17 : decode cX0_doomed 17 = .ok (.aload_n 0, 1) := dk_42 (dk_at dksX0_doomed_0 17 rfl rfl)
theorem dX0_doomed_18 : decode cX0_doomed 18 = .ok (.invokevirtual 452, 3) := dk_182 1 196 (dk_at dksX0_doomed_0 18 rfl rfl)
theorem dX0_doomed_21 : decode cX0_doomed 21 = .ok (.astore_n 2, 1) := dk_77 (dk_at dksX0_doomed_0 21 rfl rfl)
theorem dX0_doomed_22 : decode cX0_doomed 22 = .ok (.iconst 0, 1) := dk_3 (dk_at dksX0_doomed_0 22 rfl rfl)
theorem dX0_doomed_23 : decode cX0_doomed 23 = .ok (.istore_n 3, 1) := dk_62 (dk_at dksX0_doomed_0 23 rfl rfl)
theorem dX0_doomed_24 : decode cX0_doomed 24 = .ok (.iconst 0, 1) := dk_3 (dk_at dksX0_doomed_1 0 rfl rfl)
theorem dX0_doomed_25 : decode cX0_doomed 25 = .ok (.istore 4, 2) := dk_54 4 (dk_at dksX0_doomed_1 1 rfl rfl)
theorem dX0_doomed_27 : decode cX0_doomed 27 = .ok (.iload 4, 2) := dk_21 4 (dk_at dksX0_doomed_1 3 rfl rfl)
theorem dX0_doomed_29 : decode cX0_doomed 29 = .ok (.iload_n 1, 1) := dk_27 (dk_at dksX0_doomed_1 5 rfl rfl)
theorem dX0_doomed_30 : decode cX0_doomed 30 = .ok (.if_icmp .ge 16, 3) := dk_162 0 16 (dk_at dksX0_doomed_1 6 rfl rfl)
theorem dX0_doomed_33 : decode cX0_doomed 33 = .ok (.iload_n 3, 1) := dk_29 (dk_at dksX0_doomed_1 9 rfl rfl)
theorem dX0_doomed_34 : decode cX0_doomed 34 = .ok (.aload_n 2, 1) := dk_44 (dk_at dksX0_doomed_1 10 rfl rfl)
theorem dX0_doomed_35 : decode cX0_doomed 35 = .ok (.invokevirtual 294, 3) := dk_182 1 38 (dk_at dksX0_doomed_1 11 rfl rfl)
theorem dX0_doomed_38 : decode cX0_doomed 38 = .ok (.iadd, 1) := dk_96 (dk_at dksX0_doomed_1 14 rfl rfl)
theorem dX0_doomed_39 : decode cX0_doomed 39 = .ok (.istore_n 3, 1) := dk_62 (dk_at dksX0_doomed_1 15 rfl rfl)
theorem dX0_doomed_40 : decode cX0_doomed 40 = .ok (.iinc 4 1, 3) := dk_132 4 1 (dk_at dksX0_doomed_1 16 rfl rfl)
theorem dX0_doomed_43 : decode cX0_doomed 43 = .ok (.goto (-16), 3) := dk_167 255 240 (dk_at dksX0_doomed_1 19 rfl rfl)
theorem dX0_doomed_46 : decode cX0_doomed 46 = .ok (.iload_n 3, 1) := dk_29 (dk_at dksX0_doomed_1 22 rfl rfl)
theorem dX0_doomed_47 : decode cX0_doomed 47 = .ok (.ireturn, 1) := dk_172 (dk_at dksX0_doomed_1 23 rfl rfl)
abbrev cX0_judge : ByteArray := prog_1_method_63_code
def yX0_judge : MethodName := ⟨RX0, "judge", "(III)I"⟩
def dkwX0_judge_4 : List UInt8 := [180, 0, 130, 182, 0, 104, 172]
abbrev dktX0_judge_4 : List UInt8 := dkwX0_judge_4 ++ []
def dkwX0_judge_3 : List UInt8 := [167, 255, 214, 25, 5, 182, 1, 211, 153, 0, 7, 2, 167, 0, 4, 29, 172, 58, 4, 42, 25, 4]
abbrev dktX0_judge_3 : List UInt8 := dkwX0_judge_3 ++ dktX0_judge_4
def dkwX0_judge_2 : List UInt8 := [198, 0, 18, 25, 7, 182, 1, 189, 133, 25, 4, 21, 6, 47, 148, 153, 0, 6, 21, 6, 172, 132, 6, 1]
abbrev dktX0_judge_2 : List UInt8 := dkwX0_judge_2 ++ dktX0_judge_3
def dkwX0_judge_1 : List UInt8 := [58, 5, 3, 54, 6, 21, 6, 29, 162, 0, 42, 25, 5, 182, 1, 208, 192, 1, 187, 58, 7, 25, 7]
abbrev dktX0_judge_1 : List UInt8 := dkwX0_judge_1 ++ dktX0_judge_2
def dkwX0_judge_0 : List UInt8 := [42, 42, 27, 182, 0, 236, 28, 29, 16, 40, 4, 182, 1, 204, 58, 4, 42, 27, 182, 0, 239, 182, 1, 180]
abbrev dktX0_judge_0 : List UInt8 := dkwX0_judge_0 ++ dktX0_judge_1
theorem dksX0_judge_0 : cX0_judge.data.toList.drop 0 = dktX0_judge_0 := by decide +kernel
theorem dksX0_judge_1 : cX0_judge.data.toList.drop 24 = dktX0_judge_1 := dk_seg dksX0_judge_0 24 rfl rfl
theorem dksX0_judge_2 : cX0_judge.data.toList.drop 47 = dktX0_judge_2 := dk_seg dksX0_judge_1 23 rfl rfl
theorem dksX0_judge_3 : cX0_judge.data.toList.drop 71 = dktX0_judge_3 := dk_seg dksX0_judge_2 24 rfl rfl
theorem dksX0_judge_4 : cX0_judge.data.toList.drop 93 = dktX0_judge_4 := dk_seg dksX0_judge_3 22 rfl rfl
theorem dX0_judge_0 : decode cX0_judge 0 = .ok (.aload_n 0, 1) := dk_42 (dk_at dksX0_judge_0 0 rfl rfl)
theorem dX0_judge_1 : decode cX0_judge 1 = .ok (.aload_n 0, 1) := dk_42 (dk_at dksX0_judge_0 1 rfl rfl)
theorem dX0_judge_2 : decode cX0_judge 2 = .ok (.iload_n 1, 1) := dk_27 (dk_at dksX0_judge_0 2 rfl rfl)
theorem dX0_judge_3 : decode cX0_judge 3 = .ok (.invokevirtual 236, 3) := dk_182 0 236 (dk_at dksX0_judge_0 3 rfl rfl)
theorem dX0_judge_6 : decode cX0_judge 6 = .ok (.iload_n 2, 1) := dk_28 (dk_at dksX0_judge_0 6 rfl rfl)
theorem dX0_judge_7 : decode cX0_judge 7 = .ok (.iload_n 3, 1) := dk_29 (dk_at dksX0_judge_0 7 rfl rfl)
theorem dX0_judge_8 : decode cX0_judge 8 = .ok (.bipush 40, 2) := dk_16 40 (dk_at dksX0_judge_0 8 rfl rfl)
theorem dX0_judge_10 : decode cX0_judge 10 = .ok (.iconst 1, 1) := dk_4 (dk_at dksX0_judge_0 10 rfl rfl)
theorem dX0_judge_11 : decode cX0_judge 11 = .ok (.invokevirtual 460, 3) := dk_182 1 204 (dk_at dksX0_judge_0 11 rfl rfl)
theorem dX0_judge_14 : decode cX0_judge 14 = .ok (.astore 4, 2) := dk_58 4 (dk_at dksX0_judge_0 14 rfl rfl)
theorem dX0_judge_16 : decode cX0_judge 16 = .ok (.aload_n 0, 1) := dk_42 (dk_at dksX0_judge_0 16 rfl rfl)
theorem dX0_judge_17 : decode cX0_judge 17 = .ok (.iload_n 1, 1) := dk_27 (dk_at dksX0_judge_0 17 rfl rfl)
theorem dX0_judge_18 : decode cX0_judge 18 = .ok (.invokevirtual 239, 3) := dk_182 0 239 (dk_at dksX0_judge_0 18 rfl rfl)
theorem dX0_judge_21 : decode cX0_judge 21 = .ok (.invokevirtual 436, 3) := dk_182 1 180 (dk_at dksX0_judge_0 21 rfl rfl)
theorem dX0_judge_24 : decode cX0_judge 24 = .ok (.astore 5, 2) := dk_58 5 (dk_at dksX0_judge_1 0 rfl rfl)
theorem dX0_judge_26 : decode cX0_judge 26 = .ok (.iconst 0, 1) := dk_3 (dk_at dksX0_judge_1 2 rfl rfl)
theorem dX0_judge_27 : decode cX0_judge 27 = .ok (.istore 6, 2) := dk_54 6 (dk_at dksX0_judge_1 3 rfl rfl)
theorem dX0_judge_29 : decode cX0_judge 29 = .ok (.iload 6, 2) := dk_21 6 (dk_at dksX0_judge_1 5 rfl rfl)
theorem dX0_judge_31 : decode cX0_judge 31 = .ok (.iload_n 3, 1) := dk_29 (dk_at dksX0_judge_1 7 rfl rfl)
theorem dX0_judge_32 : decode cX0_judge 32 = .ok (.if_icmp .ge 42, 3) := dk_162 0 42 (dk_at dksX0_judge_1 8 rfl rfl)
theorem dX0_judge_35 : decode cX0_judge 35 = .ok (.aload 5, 2) := dk_25 5 (dk_at dksX0_judge_1 11 rfl rfl)
theorem dX0_judge_37 : decode cX0_judge 37 = .ok (.invokevirtual 464, 3) := dk_182 1 208 (dk_at dksX0_judge_1 13 rfl rfl)
theorem dX0_judge_40 : decode cX0_judge 40 = .ok (.checkcast 443, 3) := dk_192 1 187 (dk_at dksX0_judge_1 16 rfl rfl)
theorem dX0_judge_43 : decode cX0_judge 43 = .ok (.astore 7, 2) := dk_58 7 (dk_at dksX0_judge_1 19 rfl rfl)
theorem dX0_judge_45 : decode cX0_judge 45 = .ok (.aload 7, 2) := dk_25 7 (dk_at dksX0_judge_1 21 rfl rfl)
theorem dX0_judge_47 : decode cX0_judge 47 = .ok (.ifnull 18, 3) := dk_198 0 18 (dk_at dksX0_judge_2 0 rfl rfl)
theorem dX0_judge_50 : decode cX0_judge 50 = .ok (.aload 7, 2) := dk_25 7 (dk_at dksX0_judge_2 3 rfl rfl)
theorem dX0_judge_52 : decode cX0_judge 52 = .ok (.invokevirtual 445, 3) := dk_182 1 189 (dk_at dksX0_judge_2 5 rfl rfl)
theorem dX0_judge_55 : decode cX0_judge 55 = .ok (.i2l, 1) := dk_133 (dk_at dksX0_judge_2 8 rfl rfl)
theorem dX0_judge_56 : decode cX0_judge 56 = .ok (.aload 4, 2) := dk_25 4 (dk_at dksX0_judge_2 9 rfl rfl)
theorem dX0_judge_58 : decode cX0_judge 58 = .ok (.iload 6, 2) := dk_21 6 (dk_at dksX0_judge_2 11 rfl rfl)
theorem dX0_judge_60 : decode cX0_judge 60 = .ok (.laload, 1) := dk_47 (dk_at dksX0_judge_2 13 rfl rfl)
theorem dX0_judge_61 : decode cX0_judge 61 = .ok (.lcmp, 1) := dk_148 (dk_at dksX0_judge_2 14 rfl rfl)
theorem dX0_judge_62 : decode cX0_judge 62 = .ok (.ifCond .eq 6, 3) := dk_153 0 6 (dk_at dksX0_judge_2 15 rfl rfl)
theorem dX0_judge_65 : decode cX0_judge 65 = .ok (.iload 6, 2) := dk_21 6 (dk_at dksX0_judge_2 18 rfl rfl)
theorem dX0_judge_67 : decode cX0_judge 67 = .ok (.ireturn, 1) := dk_172 (dk_at dksX0_judge_2 20 rfl rfl)
theorem dX0_judge_68 : decode cX0_judge 68 = .ok (.iinc 6 1, 3) := dk_132 6 1 (dk_at dksX0_judge_2 21 rfl rfl)
theorem dX0_judge_71 : decode cX0_judge 71 = .ok (.goto (-42), 3) := dk_167 255 214 (dk_at dksX0_judge_3 0 rfl rfl)
theorem dX0_judge_74 : decode cX0_judge 74 = .ok (.aload 5, 2) := dk_25 5 (dk_at dksX0_judge_3 3 rfl rfl)
theorem dX0_judge_76 : decode cX0_judge 76 = .ok (.invokevirtual 467, 3) := dk_182 1 211 (dk_at dksX0_judge_3 5 rfl rfl)
theorem dX0_judge_79 : decode cX0_judge 79 = .ok (.ifCond .eq 7, 3) := dk_153 0 7 (dk_at dksX0_judge_3 8 rfl rfl)
theorem dX0_judge_82 : decode cX0_judge 82 = .ok (.iconst (-1), 1) := dk_2 (dk_at dksX0_judge_3 11 rfl rfl)
theorem dX0_judge_83 : decode cX0_judge 83 = .ok (.goto 4, 3) := dk_167 0 4 (dk_at dksX0_judge_3 12 rfl rfl)
theorem dX0_judge_86 : decode cX0_judge 86 = .ok (.iload_n 3, 1) := dk_29 (dk_at dksX0_judge_3 15 rfl rfl)
theorem dX0_judge_87 : decode cX0_judge 87 = .ok (.ireturn, 1) := dk_172 (dk_at dksX0_judge_3 16 rfl rfl)
theorem dX0_judge_88 : decode cX0_judge 88 = .ok (.astore 4, 2) := dk_58 4 (dk_at dksX0_judge_3 17 rfl rfl)
theorem dX0_judge_90 : decode cX0_judge 90 = .ok (.aload_n 0, 1) := dk_42 (dk_at dksX0_judge_3 19 rfl rfl)
theorem dX0_judge_91 : decode cX0_judge 91 = .ok (.aload 4, 2) := dk_25 4 (dk_at dksX0_judge_3 20 rfl rfl)
theorem dX0_judge_93 : decode cX0_judge 93 = .ok (.getfield 130, 3) := dk_180 0 130 (dk_at dksX0_judge_4 0 rfl rfl)
theorem dX0_judge_96 : decode cX0_judge 96 = .ok (.invokevirtual 104, 3) := dk_182 0 104 (dk_at dksX0_judge_4 3 rfl rfl)
theorem dX0_judge_99 : decode cX0_judge 99 = .ok (.ireturn, 1) := dk_172 (dk_at dksX0_judge_4 6 rfl rfl)
abbrev cX0_toldIn : ByteArray := prog_1_method_62_code
def yX0_toldIn : MethodName := ⟨RX0, "toldIn", "(ZIIII)[J"⟩
def dkwX0_toldIn_1 : List UInt8 := [89, 16, 174, 183, 0, 120, 191, 42, 28, 182, 0, 123, 21, 5, 29, 104, 184, 1, 200, 176]
abbrev dktX0_toldIn_1 : List UInt8 := dkwX0_toldIn_1 ++ []
def dkwX0_toldIn_0 : List UInt8 := [27, 153, 0, 20, 28, 184, 0, 101, 153, 0, 13, 29, 3, 21, 4, 184, 0, 39, 154, 0, 13, 187, 0, 118]
abbrev dktX0_toldIn_0 : List UInt8 := dkwX0_toldIn_0 ++ dktX0_toldIn_1
theorem dksX0_toldIn_0 : cX0_toldIn.data.toList.drop 0 = dktX0_toldIn_0 := by decide +kernel
theorem dksX0_toldIn_1 : cX0_toldIn.data.toList.drop 24 = dktX0_toldIn_1 := dk_seg dksX0_toldIn_0 24 rfl rfl
theorem dX0_toldIn_0 : decode cX0_toldIn 0 = .ok (.iload_n 1, 1) := dk_27 (dk_at dksX0_toldIn_0 0 rfl rfl)
theorem dX0_toldIn_1 : decode cX0_toldIn 1 = .ok (.ifCond .eq 20, 3) := dk_153 0 20 (dk_at dksX0_toldIn_0 1 rfl rfl)
theorem dX0_toldIn_4 : decode cX0_toldIn 4 = .ok (.iload_n 2, 1) := dk_28 (dk_at dksX0_toldIn_0 4 rfl rfl)
theorem dX0_toldIn_5 : decode cX0_toldIn 5 = .ok (.invokestatic 101, 3) := dk_184 0 101 (dk_at dksX0_toldIn_0 5 rfl rfl)
theorem dX0_toldIn_8 : decode cX0_toldIn 8 = .ok (.ifCond .eq 13, 3) := dk_153 0 13 (dk_at dksX0_toldIn_0 8 rfl rfl)
theorem dX0_toldIn_11 : decode cX0_toldIn 11 = .ok (.iload_n 3, 1) := dk_29 (dk_at dksX0_toldIn_0 11 rfl rfl)
theorem dX0_toldIn_12 : decode cX0_toldIn 12 = .ok (.iconst 0, 1) := dk_3 (dk_at dksX0_toldIn_0 12 rfl rfl)
theorem dX0_toldIn_13 : decode cX0_toldIn 13 = .ok (.iload 4, 2) := dk_21 4 (dk_at dksX0_toldIn_0 13 rfl rfl)
theorem dX0_toldIn_15 : decode cX0_toldIn 15 = .ok (.invokestatic 39, 3) := dk_184 0 39 (dk_at dksX0_toldIn_0 15 rfl rfl)
theorem dX0_toldIn_18 : decode cX0_toldIn 18 = .ok (.ifCond .ne 13, 3) := dk_154 0 13 (dk_at dksX0_toldIn_0 18 rfl rfl)
theorem dX0_toldIn_21 : decode cX0_toldIn 21 = .ok (.new 118, 3) := dk_187 0 118 (dk_at dksX0_toldIn_0 21 rfl rfl)
theorem dX0_toldIn_24 : decode cX0_toldIn 24 = .ok (.dup, 1) := dk_89 (dk_at dksX0_toldIn_1 0 rfl rfl)
theorem dX0_toldIn_25 : decode cX0_toldIn 25 = .ok (.bipush (-82), 2) := dk_16 174 (dk_at dksX0_toldIn_1 1 rfl rfl)
theorem dX0_toldIn_27 : decode cX0_toldIn 27 = .ok (.invokespecial 120, 3) := dk_183 0 120 (dk_at dksX0_toldIn_1 3 rfl rfl)
theorem dX0_toldIn_30 : decode cX0_toldIn 30 = .ok (.athrow, 1) := dk_191 (dk_at dksX0_toldIn_1 6 rfl rfl)
theorem dX0_toldIn_31 : decode cX0_toldIn 31 = .ok (.aload_n 0, 1) := dk_42 (dk_at dksX0_toldIn_1 7 rfl rfl)
theorem dX0_toldIn_32 : decode cX0_toldIn 32 = .ok (.iload_n 2, 1) := dk_28 (dk_at dksX0_toldIn_1 8 rfl rfl)
theorem dX0_toldIn_33 : decode cX0_toldIn 33 = .ok (.invokevirtual 123, 3) := dk_182 0 123 (dk_at dksX0_toldIn_1 9 rfl rfl)
theorem dX0_toldIn_36 : decode cX0_toldIn 36 = .ok (.iload 5, 2) := dk_21 5 (dk_at dksX0_toldIn_1 12 rfl rfl)
theorem dX0_toldIn_38 : decode cX0_toldIn 38 = .ok (.iload_n 3, 1) := dk_29 (dk_at dksX0_toldIn_1 14 rfl rfl)
theorem dX0_toldIn_39 : decode cX0_toldIn 39 = .ok (.imul, 1) := dk_104 (dk_at dksX0_toldIn_1 15 rfl rfl)
theorem dX0_toldIn_40 : decode cX0_toldIn 40 = .ok (.invokestatic 456, 3) := dk_184 1 200 (dk_at dksX0_toldIn_1 16 rfl rfl)
theorem dX0_toldIn_43 : decode cX0_toldIn 43 = .ok (.areturn, 1) := dk_176 (dk_at dksX0_toldIn_1 19 rfl rfl)
abbrev cX0_elementsIn : ByteArray := prog_1_method_61_code
def yX0_elementsIn : MethodName := ⟨RX0, "elementsIn", "(Ljava/lang/Object;I)[J"⟩
def dkwX0_elementsIn_1 : List UInt8 := [167, 255, 240, 167, 0, 14, 78, 187, 0, 118, 89, 16, 174, 183, 0, 120, 191, 44, 176]
abbrev dktX0_elementsIn_1 : List UInt8 := dkwX0_elementsIn_1 ++ []
def dkwX0_elementsIn_0 : List UInt8 := [27, 188, 11, 77, 3, 62, 29, 27, 162, 0, 17, 44, 29, 42, 29, 184, 0, 148, 80, 132, 3, 1]
abbrev dktX0_elementsIn_0 : List UInt8 := dkwX0_elementsIn_0 ++ dktX0_elementsIn_1
theorem dksX0_elementsIn_0 : cX0_elementsIn.data.toList.drop 0 = dktX0_elementsIn_0 := by decide +kernel
theorem dksX0_elementsIn_1 : cX0_elementsIn.data.toList.drop 22 = dktX0_elementsIn_1 := dk_seg dksX0_elementsIn_0 22 rfl rfl
theorem dX0_elementsIn_0 : decode cX0_elementsIn 0 = .ok (.iload_n 1, 1) := dk_27 (dk_at dksX0_elementsIn_0 0 rfl rfl)
theorem dX0_elementsIn_1 : decode cX0_elementsIn 1 = .ok (.newarray .long, 2) := dk_188_11 (dk_at dksX0_elementsIn_0 1 rfl rfl)
theorem dX0_elementsIn_3 : decode cX0_elementsIn 3 = .ok (.astore_n 2, 1) := dk_77 (dk_at dksX0_elementsIn_0 3 rfl rfl)
theorem dX0_elementsIn_4 : decode cX0_elementsIn 4 = .ok (.iconst 0, 1) := dk_3 (dk_at dksX0_elementsIn_0 4 rfl rfl)
theorem dX0_elementsIn_5 : decode cX0_elementsIn 5 = .ok (.istore_n 3, 1) := dk_62 (dk_at dksX0_elementsIn_0 5 rfl rfl)
theorem dX0_elementsIn_6 : decode cX0_elementsIn 6 = .ok (.iload_n 3, 1) := dk_29 (dk_at dksX0_elementsIn_0 6 rfl rfl)
theorem dX0_elementsIn_7 : decode cX0_elementsIn 7 = .ok (.iload_n 1, 1) := dk_27 (dk_at dksX0_elementsIn_0 7 rfl rfl)
theorem dX0_elementsIn_8 : decode cX0_elementsIn 8 = .ok (.if_icmp .ge 17, 3) := dk_162 0 17 (dk_at dksX0_elementsIn_0 8 rfl rfl)
theorem dX0_elementsIn_11 : decode cX0_elementsIn 11 = .ok (.aload_n 2, 1) := dk_44 (dk_at dksX0_elementsIn_0 11 rfl rfl)
theorem dX0_elementsIn_12 : decode cX0_elementsIn 12 = .ok (.iload_n 3, 1) := dk_29 (dk_at dksX0_elementsIn_0 12 rfl rfl)
theorem dX0_elementsIn_13 : decode cX0_elementsIn 13 = .ok (.aload_n 0, 1) := dk_42 (dk_at dksX0_elementsIn_0 13 rfl rfl)
theorem dX0_elementsIn_14 : decode cX0_elementsIn 14 = .ok (.iload_n 3, 1) := dk_29 (dk_at dksX0_elementsIn_0 14 rfl rfl)
theorem dX0_elementsIn_15 : decode cX0_elementsIn 15 = .ok (.invokestatic 148, 3) := dk_184 0 148 (dk_at dksX0_elementsIn_0 15 rfl rfl)
theorem dX0_elementsIn_18 : decode cX0_elementsIn 18 = .ok (.lastore, 1) := dk_80 (dk_at dksX0_elementsIn_0 18 rfl rfl)
theorem dX0_elementsIn_19 : decode cX0_elementsIn 19 = .ok (.iinc 3 1, 3) := dk_132 3 1 (dk_at dksX0_elementsIn_0 19 rfl rfl)
theorem dX0_elementsIn_22 : decode cX0_elementsIn 22 = .ok (.goto (-16), 3) := dk_167 255 240 (dk_at dksX0_elementsIn_1 0 rfl rfl)
theorem dX0_elementsIn_25 : decode cX0_elementsIn 25 = .ok (.goto 14, 3) := dk_167 0 14 (dk_at dksX0_elementsIn_1 3 rfl rfl)
theorem dX0_elementsIn_28 : decode cX0_elementsIn 28 = .ok (.astore_n 3, 1) := dk_78 (dk_at dksX0_elementsIn_1 6 rfl rfl)
theorem dX0_elementsIn_29 : decode cX0_elementsIn 29 = .ok (.new 118, 3) := dk_187 0 118 (dk_at dksX0_elementsIn_1 7 rfl rfl)
theorem dX0_elementsIn_32 : decode cX0_elementsIn 32 = .ok (.dup, 1) := dk_89 (dk_at dksX0_elementsIn_1 10 rfl rfl)
theorem dX0_elementsIn_33 : decode cX0_elementsIn 33 = .ok (.bipush (-82), 2) := dk_16 174 (dk_at dksX0_elementsIn_1 11 rfl rfl)
theorem dX0_elementsIn_35 : decode cX0_elementsIn 35 = .ok (.invokespecial 120, 3) := dk_183 0 120 (dk_at dksX0_elementsIn_1 13 rfl rfl)
theorem dX0_elementsIn_38 : decode cX0_elementsIn 38 = .ok (.athrow, 1) := dk_191 (dk_at dksX0_elementsIn_1 16 rfl rfl)
theorem dX0_elementsIn_39 : decode cX0_elementsIn 39 = .ok (.aload_n 2, 1) := dk_44 (dk_at dksX0_elementsIn_1 17 rfl rfl)
theorem dX0_elementsIn_40 : decode cX0_elementsIn 40 = .ok (.areturn, 1) := dk_176 (dk_at dksX0_elementsIn_1 18 rfl rfl)
abbrev cX0_days : ByteArray := prog_1_method_64_code
def yX0_days : MethodName := ⟨RX0, "days", "(I)I"⟩
def dkwX0_days_2 : List UInt8 := [167, 255, 230, 28, 172]
abbrev dktX0_days_2 : List UInt8 := dkwX0_days_2 ++ []
def dkwX0_days_1 : List UInt8 := [162, 0, 27, 28, 42, 180, 0, 16, 182, 1, 214, 153, 0, 7, 4, 167, 0, 4, 3, 96, 61, 132, 3, 1]
abbrev dktX0_days_1 : List UInt8 := dkwX0_days_1 ++ dktX0_days_2
def dkwX0_days_0 : List UInt8 := [27, 4, 16, 60, 184, 0, 39, 154, 0, 10, 42, 16, 174, 182, 0, 104, 172, 3, 61, 3, 62, 29, 27]
abbrev dktX0_days_0 : List UInt8 := dkwX0_days_0 ++ dktX0_days_1
theorem dksX0_days_0 : cX0_days.data.toList.drop 0 = dktX0_days_0 := by decide +kernel
theorem dksX0_days_1 : cX0_days.data.toList.drop 23 = dktX0_days_1 := dk_seg dksX0_days_0 23 rfl rfl
theorem dksX0_days_2 : cX0_days.data.toList.drop 47 = dktX0_days_2 := dk_seg dksX0_days_1 24 rfl rfl
theorem dX0_days_0 : decode cX0_days 0 = .ok (.iload_n 1, 1) := dk_27 (dk_at dksX0_days_0 0 rfl rfl)
theorem dX0_days_1 : decode cX0_days 1 = .ok (.iconst 1, 1) := dk_4 (dk_at dksX0_days_0 1 rfl rfl)
theorem dX0_days_2 : decode cX0_days 2 = .ok (.bipush 60, 2) := dk_16 60 (dk_at dksX0_days_0 2 rfl rfl)
theorem dX0_days_4 : decode cX0_days 4 = .ok (.invokestatic 39, 3) := dk_184 0 39 (dk_at dksX0_days_0 4 rfl rfl)
theorem dX0_days_7 : decode cX0_days 7 = .ok (.ifCond .ne 10, 3) := dk_154 0 10 (dk_at dksX0_days_0 7 rfl rfl)
theorem dX0_days_10 : decode cX0_days 10 = .ok (.aload_n 0, 1) := dk_42 (dk_at dksX0_days_0 10 rfl rfl)
theorem dX0_days_11 : decode cX0_days 11 = .ok (.bipush (-82), 2) := dk_16 174 (dk_at dksX0_days_0 11 rfl rfl)
theorem dX0_days_13 : decode cX0_days 13 = .ok (.invokevirtual 104, 3) := dk_182 0 104 (dk_at dksX0_days_0 13 rfl rfl)
theorem dX0_days_16 : decode cX0_days 16 = .ok (.ireturn, 1) := dk_172 (dk_at dksX0_days_0 16 rfl rfl)
theorem dX0_days_17 : decode cX0_days 17 = .ok (.iconst 0, 1) := dk_3 (dk_at dksX0_days_0 17 rfl rfl)
theorem dX0_days_18 : decode cX0_days 18 = .ok (.istore_n 2, 1) := dk_61 (dk_at dksX0_days_0 18 rfl rfl)
theorem dX0_days_19 : decode cX0_days 19 = .ok (.iconst 0, 1) := dk_3 (dk_at dksX0_days_0 19 rfl rfl)
theorem dX0_days_20 : decode cX0_days 20 = .ok (.istore_n 3, 1) := dk_62 (dk_at dksX0_days_0 20 rfl rfl)
theorem dX0_days_21 : decode cX0_days 21 = .ok (.iload_n 3, 1) := dk_29 (dk_at dksX0_days_0 21 rfl rfl)
theorem dX0_days_22 : decode cX0_days 22 = .ok (.iload_n 1, 1) := dk_27 (dk_at dksX0_days_0 22 rfl rfl)
theorem dX0_days_23 : decode cX0_days 23 = .ok (.if_icmp .ge 27, 3) := dk_162 0 27 (dk_at dksX0_days_1 0 rfl rfl)
theorem dX0_days_26 : decode cX0_days 26 = .ok (.iload_n 2, 1) := dk_28 (dk_at dksX0_days_1 3 rfl rfl)
theorem dX0_days_27 : decode cX0_days 27 = .ok (.aload_n 0, 1) := dk_42 (dk_at dksX0_days_1 4 rfl rfl)
theorem dX0_days_28 : decode cX0_days 28 = .ok (.getfield 16, 3) := dk_180 0 16 (dk_at dksX0_days_1 5 rfl rfl)
theorem dX0_days_31 : decode cX0_days 31 = .ok (.invokevirtual 470, 3) := dk_182 1 214 (dk_at dksX0_days_1 8 rfl rfl)
theorem dX0_days_34 : decode cX0_days 34 = .ok (.ifCond .eq 7, 3) := dk_153 0 7 (dk_at dksX0_days_1 11 rfl rfl)
theorem dX0_days_37 : decode cX0_days 37 = .ok (.iconst 1, 1) := dk_4 (dk_at dksX0_days_1 14 rfl rfl)
theorem dX0_days_38 : decode cX0_days 38 = .ok (.goto 4, 3) := dk_167 0 4 (dk_at dksX0_days_1 15 rfl rfl)
theorem dX0_days_41 : decode cX0_days 41 = .ok (.iconst 0, 1) := dk_3 (dk_at dksX0_days_1 18 rfl rfl)
theorem dX0_days_42 : decode cX0_days 42 = .ok (.iadd, 1) := dk_96 (dk_at dksX0_days_1 19 rfl rfl)
theorem dX0_days_43 : decode cX0_days 43 = .ok (.istore_n 2, 1) := dk_61 (dk_at dksX0_days_1 20 rfl rfl)
theorem dX0_days_44 : decode cX0_days 44 = .ok (.iinc 3 1, 3) := dk_132 3 1 (dk_at dksX0_days_1 21 rfl rfl)
theorem dX0_days_47 : decode cX0_days 47 = .ok (.goto (-26), 3) := dk_167 255 230 (dk_at dksX0_days_2 0 rfl rfl)
theorem dX0_days_50 : decode cX0_days 50 = .ok (.iload_n 2, 1) := dk_28 (dk_at dksX0_days_2 3 rfl rfl)
theorem dX0_days_51 : decode cX0_days 51 = .ok (.ireturn, 1) := dk_172 (dk_at dksX0_days_2 4 rfl rfl)
abbrev cX0_seed : ByteArray := prog_1_method_65_code
def yX0_seed : MethodName := ⟨RX0, "seed", "(I)I"⟩
def dkwX0_seed_0 : List UInt8 := [42, 180, 0, 16, 180, 1, 217, 61, 42, 180, 0, 16, 27, 181, 1, 217, 28, 172]
abbrev dktX0_seed_0 : List UInt8 := dkwX0_seed_0 ++ []
theorem dksX0_seed_0 : cX0_seed.data.toList.drop 0 = dktX0_seed_0 := by decide +kernel
theorem dX0_seed_0 : decode cX0_seed 0 = .ok (.aload_n 0, 1) := dk_42 (dk_at dksX0_seed_0 0 rfl rfl)
theorem dX0_seed_1 : decode cX0_seed 1 = .ok (.getfield 16, 3) := dk_180 0 16 (dk_at dksX0_seed_0 1 rfl rfl)
theorem dX0_seed_4 : decode cX0_seed 4 = .ok (.getfield 473, 3) := dk_180 1 217 (dk_at dksX0_seed_0 4 rfl rfl)
theorem dX0_seed_7 : decode cX0_seed 7 = .ok (.istore_n 2, 1) := dk_61 (dk_at dksX0_seed_0 7 rfl rfl)
theorem dX0_seed_8 : decode cX0_seed 8 = .ok (.aload_n 0, 1) := dk_42 (dk_at dksX0_seed_0 8 rfl rfl)
theorem dX0_seed_9 : decode cX0_seed 9 = .ok (.getfield 16, 3) := dk_180 0 16 (dk_at dksX0_seed_0 9 rfl rfl)
theorem dX0_seed_12 : decode cX0_seed 12 = .ok (.iload_n 1, 1) := dk_27 (dk_at dksX0_seed_0 12 rfl rfl)
theorem dX0_seed_13 : decode cX0_seed 13 = .ok (.putfield 473, 3) := dk_181 1 217 (dk_at dksX0_seed_0 13 rfl rfl)
theorem dX0_seed_16 : decode cX0_seed 16 = .ok (.iload_n 2, 1) := dk_28 (dk_at dksX0_seed_0 16 rfl rfl)
theorem dX0_seed_17 : decode cX0_seed 17 = .ok (.ireturn, 1) := dk_172 (dk_at dksX0_seed_0 17 rfl rfl)
abbrev cX0_image : ByteArray := prog_1_method_66_code
def yX0_image : MethodName := ⟨RX0, "image", "()I"⟩
def dkwX0_image_0 : List UInt8 := [42, 180, 0, 22, 42, 180, 0, 16, 182, 1, 192, 87, 42, 4, 181, 1, 220, 4, 172]
abbrev dktX0_image_0 : List UInt8 := dkwX0_image_0 ++ []
theorem dksX0_image_0 : cX0_image.data.toList.drop 0 = dktX0_image_0 := by decide +kernel
theorem dX0_image_0 : decode cX0_image 0 = .ok (.aload_n 0, 1) := dk_42 (dk_at dksX0_image_0 0 rfl rfl)
theorem dX0_image_1 : decode cX0_image 1 = .ok (.getfield 22, 3) := dk_180 0 22 (dk_at dksX0_image_0 1 rfl rfl)
theorem dX0_image_4 : decode cX0_image 4 = .ok (.aload_n 0, 1) := dk_42 (dk_at dksX0_image_0 4 rfl rfl)
theorem dX0_image_5 : decode cX0_image 5 = .ok (.getfield 16, 3) := dk_180 0 16 (dk_at dksX0_image_0 5 rfl rfl)
theorem dX0_image_8 : decode cX0_image 8 = .ok (.invokevirtual 448, 3) := dk_182 1 192 (dk_at dksX0_image_0 8 rfl rfl)
theorem dX0_image_11 : decode cX0_image 11 = .ok (.pop, 1) := dk_87 (dk_at dksX0_image_0 11 rfl rfl)
theorem dX0_image_12 : decode cX0_image 12 = .ok (.aload_n 0, 1) := dk_42 (dk_at dksX0_image_0 12 rfl rfl)
theorem dX0_image_13 : decode cX0_image 13 = .ok (.iconst 1, 1) := dk_4 (dk_at dksX0_image_0 13 rfl rfl)
theorem dX0_image_14 : decode cX0_image 14 = .ok (.putfield 476, 3) := dk_181 1 220 (dk_at dksX0_image_0 14 rfl rfl)
theorem dX0_image_17 : decode cX0_image 17 = .ok (.iconst 1, 1) := dk_4 (dk_at dksX0_image_0 17 rfl rfl)
theorem dX0_image_18 : decode cX0_image 18 = .ok (.ireturn, 1) := dk_172 (dk_at dksX0_image_0 18 rfl rfl)
abbrev cX0_back : ByteArray := prog_1_method_67_code
def yX0_back : MethodName := ⟨RX0, "back", "()I"⟩
def dkwX0_back_1 : List UInt8 := [182, 1, 192, 87, 4, 172]
abbrev dktX0_back_1 : List UInt8 := dkwX0_back_1 ++ []
def dkwX0_back_0 : List UInt8 := [42, 180, 1, 220, 154, 0, 10, 42, 16, 171, 182, 0, 104, 172, 42, 180, 0, 16, 42, 180, 0, 22]
abbrev dktX0_back_0 : List UInt8 := dkwX0_back_0 ++ dktX0_back_1
theorem dksX0_back_0 : cX0_back.data.toList.drop 0 = dktX0_back_0 := by decide +kernel
theorem dksX0_back_1 : cX0_back.data.toList.drop 22 = dktX0_back_1 := dk_seg dksX0_back_0 22 rfl rfl
theorem dX0_back_0 : decode cX0_back 0 = .ok (.aload_n 0, 1) := dk_42 (dk_at dksX0_back_0 0 rfl rfl)
theorem dX0_back_1 : decode cX0_back 1 = .ok (.getfield 476, 3) := dk_180 1 220 (dk_at dksX0_back_0 1 rfl rfl)
theorem dX0_back_4 : decode cX0_back 4 = .ok (.ifCond .ne 10, 3) := dk_154 0 10 (dk_at dksX0_back_0 4 rfl rfl)
theorem dX0_back_7 : decode cX0_back 7 = .ok (.aload_n 0, 1) := dk_42 (dk_at dksX0_back_0 7 rfl rfl)
theorem dX0_back_8 : decode cX0_back 8 = .ok (.bipush (-85), 2) := dk_16 171 (dk_at dksX0_back_0 8 rfl rfl)
theorem dX0_back_10 : decode cX0_back 10 = .ok (.invokevirtual 104, 3) := dk_182 0 104 (dk_at dksX0_back_0 10 rfl rfl)
theorem dX0_back_13 : decode cX0_back 13 = .ok (.ireturn, 1) := dk_172 (dk_at dksX0_back_0 13 rfl rfl)
theorem dX0_back_14 : decode cX0_back 14 = .ok (.aload_n 0, 1) := dk_42 (dk_at dksX0_back_0 14 rfl rfl)
theorem dX0_back_15 : decode cX0_back 15 = .ok (.getfield 16, 3) := dk_180 0 16 (dk_at dksX0_back_0 15 rfl rfl)
theorem dX0_back_18 : decode cX0_back 18 = .ok (.aload_n 0, 1) := dk_42 (dk_at dksX0_back_0 18 rfl rfl)
theorem dX0_back_19 : decode cX0_back 19 = .ok (.getfield 22, 3) := dk_180 0 22 (dk_at dksX0_back_0 19 rfl rfl)
theorem dX0_back_22 : decode cX0_back 22 = .ok (.invokevirtual 448, 3) := dk_182 1 192 (dk_at dksX0_back_1 0 rfl rfl)
theorem dX0_back_25 : decode cX0_back 25 = .ok (.pop, 1) := dk_87 (dk_at dksX0_back_1 3 rfl rfl)
theorem dX0_back_26 : decode cX0_back 26 = .ok (.iconst 1, 1) := dk_4 (dk_at dksX0_back_1 4 rfl rfl)
theorem dX0_back_27 : decode cX0_back 27 = .ok (.ireturn, 1) := dk_172 (dk_at dksX0_back_1 5 rfl rfl)
abbrev cX0_status : ByteArray := prog_1_method_70_code
def yX0_status : MethodName := ⟨RX0, "status", "(I)I"⟩
def dkwX0_status_8 : List UInt8 := [172]
abbrev dktX0_status_8 : List UInt8 := dkwX0_status_8 ++ []
def dkwX0_status_7 : List UInt8 := [180, 0, 196, 167, 0, 21, 42, 180, 0, 16, 180, 1, 217, 167, 0, 11, 42, 182, 1, 239, 167, 0, 4, 2]
abbrev dktX0_status_7 : List UInt8 := dkwX0_status_7 ++ dktX0_status_8
def dkwX0_status_6 : List UInt8 := [180, 0, 207, 199, 0, 7, 3, 167, 0, 41, 42, 180, 0, 16, 180, 0, 207, 182, 0, 211, 167, 0, 28, 42]
abbrev dktX0_status_6 : List UInt8 := dkwX0_status_6 ++ dktX0_status_7
def dkwX0_status_5 : List UInt8 := [182, 1, 232, 167, 0, 68, 42, 42, 186, 1, 236, 0, 0, 182, 1, 232, 167, 0, 55, 42, 180, 0, 16]
abbrev dktX0_status_5 : List UInt8 := dkwX0_status_5 ++ dktX0_status_6
def dkwX0_status_4 : List UInt8 := [182, 0, 73, 167, 0, 90, 42, 180, 0, 16, 180, 1, 228, 167, 0, 80, 42, 186, 1, 229, 0, 0]
abbrev dktX0_status_4 : List UInt8 := dkwX0_status_4 ++ dktX0_status_5
def dkwX0_status_3 : List UInt8 := [167, 0, 116, 42, 180, 0, 16, 180, 1, 3, 182, 0, 47, 167, 0, 103, 42, 180, 0, 16, 180, 0, 69]
abbrev dktX0_status_3 : List UInt8 := dkwX0_status_3 ++ dktX0_status_4
def dkwX0_status_2 : List UInt8 := [42, 180, 0, 16, 180, 0, 43, 182, 0, 47, 167, 0, 129, 42, 180, 0, 16, 180, 0, 52, 182, 0, 47]
abbrev dktX0_status_2 : List UInt8 := dkwX0_status_2 ++ dktX0_status_3
def dkwX0_status_1 : List UInt8 := [170, 0, 0, 0, 0, 196, 0, 0, 0, 0, 0, 0, 0, 10, 0, 0, 0, 58, 0, 0, 0, 71, 0, 0, 0, 84, 0, 0, 0, 97, 0, 0, 0, 110, 0, 0, 0, 120, 0, 0, 0, 132, 0, 0, 0, 145, 0, 0, 0, 172, 0, 0, 0, 179, 0, 0, 0, 189]
abbrev dktX0_status_1 : List UInt8 := dkwX0_status_1 ++ dktX0_status_2
def dkwX0_status_0 : List UInt8 := [27, 16, 12, 16, 16, 184, 0, 39, 153, 0, 13, 42, 180, 0, 35, 27, 16, 10, 100, 46, 172, 27]
abbrev dktX0_status_0 : List UInt8 := dkwX0_status_0 ++ dktX0_status_1
theorem dksX0_status_0 : cX0_status.data.toList.drop 0 = dktX0_status_0 := by decide +kernel
theorem dksX0_status_1 : cX0_status.data.toList.drop 22 = dktX0_status_1 := dk_seg dksX0_status_0 22 rfl rfl
theorem dksX0_status_2 : cX0_status.data.toList.drop 80 = dktX0_status_2 := dk_seg dksX0_status_1 58 rfl rfl
theorem dksX0_status_3 : cX0_status.data.toList.drop 103 = dktX0_status_3 := dk_seg dksX0_status_2 23 rfl rfl
theorem dksX0_status_4 : cX0_status.data.toList.drop 126 = dktX0_status_4 := dk_seg dksX0_status_3 23 rfl rfl
theorem dksX0_status_5 : cX0_status.data.toList.drop 148 = dktX0_status_5 := dk_seg dksX0_status_4 22 rfl rfl
theorem dksX0_status_6 : cX0_status.data.toList.drop 171 = dktX0_status_6 := dk_seg dksX0_status_5 23 rfl rfl
theorem dksX0_status_7 : cX0_status.data.toList.drop 195 = dktX0_status_7 := dk_seg dksX0_status_6 24 rfl rfl
theorem dksX0_status_8 : cX0_status.data.toList.drop 219 = dktX0_status_8 := dk_seg dksX0_status_7 24 rfl rfl
theorem dX0_status_0 : decode cX0_status 0 = .ok (.iload_n 1, 1) := dk_27 (dk_at dksX0_status_0 0 rfl rfl)
theorem dX0_status_1 : decode cX0_status 1 = .ok (.bipush 12, 2) := dk_16 12 (dk_at dksX0_status_0 1 rfl rfl)
theorem dX0_status_3 : decode cX0_status 3 = .ok (.bipush 16, 2) := dk_16 16 (dk_at dksX0_status_0 3 rfl rfl)
theorem dX0_status_5 : decode cX0_status 5 = .ok (.invokestatic 39, 3) := dk_184 0 39 (dk_at dksX0_status_0 5 rfl rfl)
theorem dX0_status_8 : decode cX0_status 8 = .ok (.ifCond .eq 13, 3) := dk_153 0 13 (dk_at dksX0_status_0 8 rfl rfl)
theorem dX0_status_11 : decode cX0_status 11 = .ok (.aload_n 0, 1) := dk_42 (dk_at dksX0_status_0 11 rfl rfl)
theorem dX0_status_12 : decode cX0_status 12 = .ok (.getfield 35, 3) := dk_180 0 35 (dk_at dksX0_status_0 12 rfl rfl)
theorem dX0_status_15 : decode cX0_status 15 = .ok (.iload_n 1, 1) := dk_27 (dk_at dksX0_status_0 15 rfl rfl)
theorem dX0_status_16 : decode cX0_status 16 = .ok (.bipush 10, 2) := dk_16 10 (dk_at dksX0_status_0 16 rfl rfl)
theorem dX0_status_18 : decode cX0_status 18 = .ok (.isub, 1) := dk_100 (dk_at dksX0_status_0 18 rfl rfl)
theorem dX0_status_19 : decode cX0_status 19 = .ok (.iaload, 1) := dk_46 (dk_at dksX0_status_0 19 rfl rfl)
theorem dX0_status_20 : decode cX0_status 20 = .ok (.ireturn, 1) := dk_172 (dk_at dksX0_status_0 20 rfl rfl)
theorem dX0_status_21 : decode cX0_status 21 = .ok (.iload_n 1, 1) := dk_27 (dk_at dksX0_status_0 21 rfl rfl)
theorem dX0_status_22 : decode cX0_status 22 = .ok (.tableswitch 196 0 10 #[58, 71, 84, 97, 110, 120, 132, 145, 172, 179, 189], 58) := by decide +kernel
theorem dX0_status_80 : decode cX0_status 80 = .ok (.aload_n 0, 1) := dk_42 (dk_at dksX0_status_2 0 rfl rfl)
theorem dX0_status_81 : decode cX0_status 81 = .ok (.getfield 16, 3) := dk_180 0 16 (dk_at dksX0_status_2 1 rfl rfl)
theorem dX0_status_84 : decode cX0_status 84 = .ok (.getfield 43, 3) := dk_180 0 43 (dk_at dksX0_status_2 4 rfl rfl)
theorem dX0_status_87 : decode cX0_status 87 = .ok (.invokevirtual 47, 3) := dk_182 0 47 (dk_at dksX0_status_2 7 rfl rfl)
theorem dX0_status_90 : decode cX0_status 90 = .ok (.goto 129, 3) := dk_167 0 129 (dk_at dksX0_status_2 10 rfl rfl)
theorem dX0_status_93 : decode cX0_status 93 = .ok (.aload_n 0, 1) := dk_42 (dk_at dksX0_status_2 13 rfl rfl)
theorem dX0_status_94 : decode cX0_status 94 = .ok (.getfield 16, 3) := dk_180 0 16 (dk_at dksX0_status_2 14 rfl rfl)
theorem dX0_status_97 : decode cX0_status 97 = .ok (.getfield 52, 3) := dk_180 0 52 (dk_at dksX0_status_2 17 rfl rfl)
theorem dX0_status_100 : decode cX0_status 100 = .ok (.invokevirtual 47, 3) := dk_182 0 47 (dk_at dksX0_status_2 20 rfl rfl)
theorem dX0_status_103 : decode cX0_status 103 = .ok (.goto 116, 3) := dk_167 0 116 (dk_at dksX0_status_3 0 rfl rfl)
theorem dX0_status_106 : decode cX0_status 106 = .ok (.aload_n 0, 1) := dk_42 (dk_at dksX0_status_3 3 rfl rfl)
theorem dX0_status_107 : decode cX0_status 107 = .ok (.getfield 16, 3) := dk_180 0 16 (dk_at dksX0_status_3 4 rfl rfl)
theorem dX0_status_110 : decode cX0_status 110 = .ok (.getfield 259, 3) := dk_180 1 3 (dk_at dksX0_status_3 7 rfl rfl)
theorem dX0_status_113 : decode cX0_status 113 = .ok (.invokevirtual 47, 3) := dk_182 0 47 (dk_at dksX0_status_3 10 rfl rfl)
theorem dX0_status_116 : decode cX0_status 116 = .ok (.goto 103, 3) := dk_167 0 103 (dk_at dksX0_status_3 13 rfl rfl)
theorem dX0_status_119 : decode cX0_status 119 = .ok (.aload_n 0, 1) := dk_42 (dk_at dksX0_status_3 16 rfl rfl)
theorem dX0_status_120 : decode cX0_status 120 = .ok (.getfield 16, 3) := dk_180 0 16 (dk_at dksX0_status_3 17 rfl rfl)
theorem dX0_status_123 : decode cX0_status 123 = .ok (.getfield 69, 3) := dk_180 0 69 (dk_at dksX0_status_3 20 rfl rfl)
theorem dX0_status_126 : decode cX0_status 126 = .ok (.invokevirtual 73, 3) := dk_182 0 73 (dk_at dksX0_status_4 0 rfl rfl)
theorem dX0_status_129 : decode cX0_status 129 = .ok (.goto 90, 3) := dk_167 0 90 (dk_at dksX0_status_4 3 rfl rfl)
theorem dX0_status_132 : decode cX0_status 132 = .ok (.aload_n 0, 1) := dk_42 (dk_at dksX0_status_4 6 rfl rfl)
theorem dX0_status_133 : decode cX0_status 133 = .ok (.getfield 16, 3) := dk_180 0 16 (dk_at dksX0_status_4 7 rfl rfl)
theorem dX0_status_136 : decode cX0_status 136 = .ok (.getfield 484, 3) := dk_180 1 228 (dk_at dksX0_status_4 10 rfl rfl)
theorem dX0_status_139 : decode cX0_status 139 = .ok (.goto 80, 3) := dk_167 0 80 (dk_at dksX0_status_4 13 rfl rfl)
theorem dX0_status_142 : decode cX0_status 142 = .ok (.aload_n 0, 1) := dk_42 (dk_at dksX0_status_4 16 rfl rfl)
theorem dX0_status_143 : decode cX0_status 143 = .ok (.invokedynamic 485, 5) := by decide +kernel
theorem dX0_status_148 : decode cX0_status 148 = .ok (.invokevirtual 488, 3) := dk_182 1 232 (dk_at dksX0_status_5 0 rfl rfl)
theorem dX0_status_151 : decode cX0_status 151 = .ok (.goto 68, 3) := dk_167 0 68 (dk_at dksX0_status_5 3 rfl rfl)
theorem dX0_status_154 : decode cX0_status 154 = .ok (.aload_n 0, 1) := dk_42 (dk_at dksX0_status_5 6 rfl rfl)
theorem dX0_status_155 : decode cX0_status 155 = .ok (.aload_n 0, 1) := dk_42 (dk_at dksX0_status_5 7 rfl rfl)
theorem dX0_status_156 : decode cX0_status 156 = .ok (.invokedynamic 492, 5) := by decide +kernel
theorem dX0_status_161 : decode cX0_status 161 = .ok (.invokevirtual 488, 3) := dk_182 1 232 (dk_at dksX0_status_5 13 rfl rfl)
theorem dX0_status_164 : decode cX0_status 164 = .ok (.goto 55, 3) := dk_167 0 55 (dk_at dksX0_status_5 16 rfl rfl)
theorem dX0_status_167 : decode cX0_status 167 = .ok (.aload_n 0, 1) := dk_42 (dk_at dksX0_status_5 19 rfl rfl)
theorem dX0_status_168 : decode cX0_status 168 = .ok (.getfield 16, 3) := dk_180 0 16 (dk_at dksX0_status_5 20 rfl rfl)
theorem dX0_status_171 : decode cX0_status 171 = .ok (.getfield 207, 3) := dk_180 0 207 (dk_at dksX0_status_6 0 rfl rfl)
theorem dX0_status_174 : decode cX0_status 174 = .ok (.ifnonnull 7, 3) := dk_199 0 7 (dk_at dksX0_status_6 3 rfl rfl)
theorem dX0_status_177 : decode cX0_status 177 = .ok (.iconst 0, 1) := dk_3 (dk_at dksX0_status_6 6 rfl rfl)
theorem dX0_status_178 : decode cX0_status 178 = .ok (.goto 41, 3) := dk_167 0 41 (dk_at dksX0_status_6 7 rfl rfl)
theorem dX0_status_181 : decode cX0_status 181 = .ok (.aload_n 0, 1) := dk_42 (dk_at dksX0_status_6 10 rfl rfl)
theorem dX0_status_182 : decode cX0_status 182 = .ok (.getfield 16, 3) := dk_180 0 16 (dk_at dksX0_status_6 11 rfl rfl)
theorem dX0_status_185 : decode cX0_status 185 = .ok (.getfield 207, 3) := dk_180 0 207 (dk_at dksX0_status_6 14 rfl rfl)
theorem dX0_status_188 : decode cX0_status 188 = .ok (.invokevirtual 211, 3) := dk_182 0 211 (dk_at dksX0_status_6 17 rfl rfl)
theorem dX0_status_191 : decode cX0_status 191 = .ok (.goto 28, 3) := dk_167 0 28 (dk_at dksX0_status_6 20 rfl rfl)
theorem dX0_status_194 : decode cX0_status 194 = .ok (.aload_n 0, 1) := dk_42 (dk_at dksX0_status_6 23 rfl rfl)
theorem dX0_status_195 : decode cX0_status 195 = .ok (.getfield 196, 3) := dk_180 0 196 (dk_at dksX0_status_7 0 rfl rfl)
theorem dX0_status_198 : decode cX0_status 198 = .ok (.goto 21, 3) := dk_167 0 21 (dk_at dksX0_status_7 3 rfl rfl)
theorem dX0_status_201 : decode cX0_status 201 = .ok (.aload_n 0, 1) := dk_42 (dk_at dksX0_status_7 6 rfl rfl)
theorem dX0_status_202 : decode cX0_status 202 = .ok (.getfield 16, 3) := dk_180 0 16 (dk_at dksX0_status_7 7 rfl rfl)
theorem dX0_status_205 : decode cX0_status 205 = .ok (.getfield 473, 3) := dk_180 1 217 (dk_at dksX0_status_7 10 rfl rfl)
theorem dX0_status_208 : decode cX0_status 208 = .ok (.goto 11, 3) := dk_167 0 11 (dk_at dksX0_status_7 13 rfl rfl)
theorem dX0_status_211 : decode cX0_status 211 = .ok (.aload_n 0, 1) := dk_42 (dk_at dksX0_status_7 16 rfl rfl)
theorem dX0_status_212 : decode cX0_status 212 = .ok (.invokevirtual 495, 3) := dk_182 1 239 (dk_at dksX0_status_7 17 rfl rfl)
theorem dX0_status_215 : decode cX0_status 215 = .ok (.goto 4, 3) := dk_167 0 4 (dk_at dksX0_status_7 20 rfl rfl)
theorem dX0_status_218 : decode cX0_status 218 = .ok (.iconst (-1), 1) := dk_2 (dk_at dksX0_status_7 23 rfl rfl)
theorem dX0_status_219 : decode cX0_status 219 = .ok (.ireturn, 1) := dk_172 (dk_at dksX0_status_8 0 rfl rfl)
abbrev cX0_lambda_status_5 : ByteArray := prog_1_method_72_code
def yX0_lambda_status_5 : MethodName := ⟨RX0, "lambda$status$5", "(LCreditBroker$Queue;)I"⟩
def dkwX0_lambda_status_5_0 : List UInt8 := [42, 180, 1, 78, 182, 0, 47, 172]
abbrev dktX0_lambda_status_5_0 : List UInt8 := dkwX0_lambda_status_5_0 ++ []
theorem dksX0_lambda_status_5_0 : cX0_lambda_status_5.data.toList.drop 0 = dktX0_lambda_status_5_0 := by decide +kernel
theorem dX0_lambda_status_5_0 : decode cX0_lambda_status_5 0 = .ok (.aload_n 0, 1) := dk_42 (dk_at dksX0_lambda_status_5_0 0 rfl rfl)
theorem dX0_lambda_status_5_1 : decode cX0_lambda_status_5 1 = .ok (.getfield 334, 3) := dk_180 1 78 (dk_at dksX0_lambda_status_5_0 1 rfl rfl)
theorem dX0_lambda_status_5_4 : decode cX0_lambda_status_5 4 = .ok (.invokevirtual 47, 3) := dk_182 0 47 (dk_at dksX0_lambda_status_5_0 4 rfl rfl)
theorem dX0_lambda_status_5_7 : decode cX0_lambda_status_5 7 = .ok (.ireturn, 1) := dk_172 (dk_at dksX0_lambda_status_5_0 7 rfl rfl)
abbrev cX0_sum : ByteArray := prog_1_method_68_code
def yX0_sum : MethodName := ⟨RX0, "sum", "(LCreditBroker$Tally;)I"⟩
def dkwX0_sum_2 : List UInt8 := [28, 172]
abbrev dktX0_sum_2 : List UInt8 := dkwX0_sum_2 ++ []
def dkwX0_sum_1 : List UInt8 := [185, 1, 72, 1, 0, 192, 0, 76, 58, 4, 28, 43, 25, 4, 185, 1, 223, 2, 0, 96, 61, 167, 255, 225]
abbrev dktX0_sum_1 : List UInt8 := dkwX0_sum_1 ++ dktX0_sum_2
def dkwX0_sum_0 : List UInt8 := [3, 61, 42, 180, 0, 16, 180, 0, 43, 182, 1, 81, 78, 45, 185, 1, 67, 1, 0, 153, 0, 28, 45]
abbrev dktX0_sum_0 : List UInt8 := dkwX0_sum_0 ++ dktX0_sum_1
theorem dksX0_sum_0 : cX0_sum.data.toList.drop 0 = dktX0_sum_0 := by decide +kernel
theorem dksX0_sum_1 : cX0_sum.data.toList.drop 23 = dktX0_sum_1 := dk_seg dksX0_sum_0 23 rfl rfl
theorem dksX0_sum_2 : cX0_sum.data.toList.drop 47 = dktX0_sum_2 := dk_seg dksX0_sum_1 24 rfl rfl
theorem dX0_sum_0 : decode cX0_sum 0 = .ok (.iconst 0, 1) := dk_3 (dk_at dksX0_sum_0 0 rfl rfl)
theorem dX0_sum_1 : decode cX0_sum 1 = .ok (.istore_n 2, 1) := dk_61 (dk_at dksX0_sum_0 1 rfl rfl)
theorem dX0_sum_2 : decode cX0_sum 2 = .ok (.aload_n 0, 1) := dk_42 (dk_at dksX0_sum_0 2 rfl rfl)
theorem dX0_sum_3 : decode cX0_sum 3 = .ok (.getfield 16, 3) := dk_180 0 16 (dk_at dksX0_sum_0 3 rfl rfl)
theorem dX0_sum_6 : decode cX0_sum 6 = .ok (.getfield 43, 3) := dk_180 0 43 (dk_at dksX0_sum_0 6 rfl rfl)
theorem dX0_sum_9 : decode cX0_sum 9 = .ok (.invokevirtual 337, 3) := dk_182 1 81 (dk_at dksX0_sum_0 9 rfl rfl)
theorem dX0_sum_12 : decode cX0_sum 12 = .ok (.astore_n 3, 1) := dk_78 (dk_at dksX0_sum_0 12 rfl rfl)
theorem dX0_sum_13 : decode cX0_sum 13 = .ok (.aload_n 3, 1) := dk_45 (dk_at dksX0_sum_0 13 rfl rfl)
theorem dX0_sum_14 : decode cX0_sum 14 = .ok (.invokeinterface 323 1, 5) := by decide +kernel
theorem dX0_sum_19 : decode cX0_sum 19 = .ok (.ifCond .eq 28, 3) := dk_153 0 28 (dk_at dksX0_sum_0 19 rfl rfl)
theorem dX0_sum_22 : decode cX0_sum 22 = .ok (.aload_n 3, 1) := dk_45 (dk_at dksX0_sum_0 22 rfl rfl)
theorem dX0_sum_23 : decode cX0_sum 23 = .ok (.invokeinterface 328 1, 5) := by decide +kernel
theorem dX0_sum_28 : decode cX0_sum 28 = .ok (.checkcast 76, 3) := dk_192 0 76 (dk_at dksX0_sum_1 5 rfl rfl)
theorem dX0_sum_31 : decode cX0_sum 31 = .ok (.astore 4, 2) := dk_58 4 (dk_at dksX0_sum_1 8 rfl rfl)
theorem dX0_sum_33 : decode cX0_sum 33 = .ok (.iload_n 2, 1) := dk_28 (dk_at dksX0_sum_1 10 rfl rfl)
theorem dX0_sum_34 : decode cX0_sum 34 = .ok (.aload_n 1, 1) := dk_43 (dk_at dksX0_sum_1 11 rfl rfl)
theorem dX0_sum_35 : decode cX0_sum 35 = .ok (.aload 4, 2) := dk_25 4 (dk_at dksX0_sum_1 12 rfl rfl)
theorem dX0_sum_37 : decode cX0_sum 37 = .ok (.invokeinterface 479 2, 5) := by decide +kernel
theorem dX0_sum_42 : decode cX0_sum 42 = .ok (.iadd, 1) := dk_96 (dk_at dksX0_sum_1 19 rfl rfl)
theorem dX0_sum_43 : decode cX0_sum 43 = .ok (.istore_n 2, 1) := dk_61 (dk_at dksX0_sum_1 20 rfl rfl)
theorem dX0_sum_44 : decode cX0_sum 44 = .ok (.goto (-31), 3) := dk_167 255 225 (dk_at dksX0_sum_1 21 rfl rfl)
theorem dX0_sum_47 : decode cX0_sum 47 = .ok (.iload_n 2, 1) := dk_28 (dk_at dksX0_sum_2 0 rfl rfl)
theorem dX0_sum_48 : decode cX0_sum 48 = .ok (.ireturn, 1) := dk_172 (dk_at dksX0_sum_2 1 rfl rfl)
abbrev cX0_lambda_status_6 : ByteArray := prog_1_method_71_code
def yX0_lambda_status_6 : MethodName := ⟨RX0, "lambda$status$6", "(LCreditBroker$Queue;)I"⟩
def dkwX0_lambda_status_6_0 : List UInt8 := [42, 43, 180, 1, 152, 4, 182, 1, 96, 172]
abbrev dktX0_lambda_status_6_0 : List UInt8 := dkwX0_lambda_status_6_0 ++ []
theorem dksX0_lambda_status_6_0 : cX0_lambda_status_6.data.toList.drop 0 = dktX0_lambda_status_6_0 := by decide +kernel
theorem dX0_lambda_status_6_0 : decode cX0_lambda_status_6 0 = .ok (.aload_n 0, 1) := dk_42 (dk_at dksX0_lambda_status_6_0 0 rfl rfl)
theorem dX0_lambda_status_6_1 : decode cX0_lambda_status_6 1 = .ok (.aload_n 1, 1) := dk_43 (dk_at dksX0_lambda_status_6_0 1 rfl rfl)
theorem dX0_lambda_status_6_2 : decode cX0_lambda_status_6 2 = .ok (.getfield 408, 3) := dk_180 1 152 (dk_at dksX0_lambda_status_6_0 2 rfl rfl)
theorem dX0_lambda_status_6_5 : decode cX0_lambda_status_6 5 = .ok (.iconst 1, 1) := dk_4 (dk_at dksX0_lambda_status_6_0 5 rfl rfl)
theorem dX0_lambda_status_6_6 : decode cX0_lambda_status_6 6 = .ok (.invokevirtual 352, 3) := dk_182 1 96 (dk_at dksX0_lambda_status_6_0 6 rfl rfl)
theorem dX0_lambda_status_6_9 : decode cX0_lambda_status_6 9 = .ok (.ireturn, 1) := dk_172 (dk_at dksX0_lambda_status_6_0 9 rfl rfl)
abbrev cX0_shelved : ByteArray := prog_1_method_69_code
def yX0_shelved : MethodName := ⟨RX0, "shelved", "()I"⟩
def dkwX0_shelved_1 : List UInt8 := [167, 0, 4, 3, 96, 60, 132, 2, 1, 167, 255, 227, 27, 172]
abbrev dktX0_shelved_1 : List UInt8 := dkwX0_shelved_1 ++ []
def dkwX0_shelved_0 : List UInt8 := [3, 60, 3, 61, 28, 16, 8, 162, 0, 29, 27, 42, 180, 0, 27, 28, 50, 180, 0, 112, 198, 0, 7, 4]
abbrev dktX0_shelved_0 : List UInt8 := dkwX0_shelved_0 ++ dktX0_shelved_1
theorem dksX0_shelved_0 : cX0_shelved.data.toList.drop 0 = dktX0_shelved_0 := by decide +kernel
theorem dksX0_shelved_1 : cX0_shelved.data.toList.drop 24 = dktX0_shelved_1 := dk_seg dksX0_shelved_0 24 rfl rfl
theorem dX0_shelved_0 : decode cX0_shelved 0 = .ok (.iconst 0, 1) := dk_3 (dk_at dksX0_shelved_0 0 rfl rfl)
theorem dX0_shelved_1 : decode cX0_shelved 1 = .ok (.istore_n 1, 1) := dk_60 (dk_at dksX0_shelved_0 1 rfl rfl)
theorem dX0_shelved_2 : decode cX0_shelved 2 = .ok (.iconst 0, 1) := dk_3 (dk_at dksX0_shelved_0 2 rfl rfl)
theorem dX0_shelved_3 : decode cX0_shelved 3 = .ok (.istore_n 2, 1) := dk_61 (dk_at dksX0_shelved_0 3 rfl rfl)
theorem dX0_shelved_4 : decode cX0_shelved 4 = .ok (.iload_n 2, 1) := dk_28 (dk_at dksX0_shelved_0 4 rfl rfl)
theorem dX0_shelved_5 : decode cX0_shelved 5 = .ok (.bipush 8, 2) := dk_16 8 (dk_at dksX0_shelved_0 5 rfl rfl)
theorem dX0_shelved_7 : decode cX0_shelved 7 = .ok (.if_icmp .ge 29, 3) := dk_162 0 29 (dk_at dksX0_shelved_0 7 rfl rfl)
theorem dX0_shelved_10 : decode cX0_shelved 10 = .ok (.iload_n 1, 1) := dk_27 (dk_at dksX0_shelved_0 10 rfl rfl)
theorem dX0_shelved_11 : decode cX0_shelved 11 = .ok (.aload_n 0, 1) := dk_42 (dk_at dksX0_shelved_0 11 rfl rfl)
theorem dX0_shelved_12 : decode cX0_shelved 12 = .ok (.getfield 27, 3) := dk_180 0 27 (dk_at dksX0_shelved_0 12 rfl rfl)
theorem dX0_shelved_15 : decode cX0_shelved 15 = .ok (.iload_n 2, 1) := dk_28 (dk_at dksX0_shelved_0 15 rfl rfl)
theorem dX0_shelved_16 : decode cX0_shelved 16 = .ok (.aaload, 1) := dk_50 (dk_at dksX0_shelved_0 16 rfl rfl)
theorem dX0_shelved_17 : decode cX0_shelved 17 = .ok (.getfield 112, 3) := dk_180 0 112 (dk_at dksX0_shelved_0 17 rfl rfl)
theorem dX0_shelved_20 : decode cX0_shelved 20 = .ok (.ifnull 7, 3) := dk_198 0 7 (dk_at dksX0_shelved_0 20 rfl rfl)
theorem dX0_shelved_23 : decode cX0_shelved 23 = .ok (.iconst 1, 1) := dk_4 (dk_at dksX0_shelved_0 23 rfl rfl)
theorem dX0_shelved_24 : decode cX0_shelved 24 = .ok (.goto 4, 3) := dk_167 0 4 (dk_at dksX0_shelved_1 0 rfl rfl)
theorem dX0_shelved_27 : decode cX0_shelved 27 = .ok (.iconst 0, 1) := dk_3 (dk_at dksX0_shelved_1 3 rfl rfl)
theorem dX0_shelved_28 : decode cX0_shelved 28 = .ok (.iadd, 1) := dk_96 (dk_at dksX0_shelved_1 4 rfl rfl)
theorem dX0_shelved_29 : decode cX0_shelved 29 = .ok (.istore_n 1, 1) := dk_60 (dk_at dksX0_shelved_1 5 rfl rfl)
theorem dX0_shelved_30 : decode cX0_shelved 30 = .ok (.iinc 2 1, 3) := dk_132 2 1 (dk_at dksX0_shelved_1 6 rfl rfl)
theorem dX0_shelved_33 : decode cX0_shelved 33 = .ok (.goto (-29), 3) := dk_167 255 227 (dk_at dksX0_shelved_1 9 rfl rfl)
theorem dX0_shelved_36 : decode cX0_shelved 36 = .ok (.iload_n 1, 1) := dk_27 (dk_at dksX0_shelved_1 12 rfl rfl)
theorem dX0_shelved_37 : decode cX0_shelved 37 = .ok (.ireturn, 1) := dk_172 (dk_at dksX0_shelved_1 13 rfl rfl)
theorem q97 : (Jvm.Cond.initialized "CreditBroker") ∈ lw_all := lw_g (lw_at lw_m1 1 rfl) rfl
theorem q164 : (Jvm.Cond.instantiable "CreditBroker" (7 : Nat)) ∈ lw_all := lw_g (lw_at lw_m1 68 rfl) rfl
theorem q166 : (Jvm.Cond.instanceMethod ({ cls := "CreditBroker", name := "<init>", desc := "()V" } : Jvm.MethodName)) ∈ lw_all := lw_g (lw_at lw_m1 70 rfl) rfl
theorem q167 : (Jvm.Cond.code ({ cls := "CreditBroker", name := "<init>", desc := "()V" } : Jvm.MethodName) prog_1_method_4_code (2 : Nat) (Option.none : Option Jvm.ClassFile.FieldType)) ∈ lw_all := lw_g (lw_at lw_m1 71 rfl) rfl
theorem q168 : (Jvm.Cond.methodLink "CreditBroker" (7 : Nat) ({ cls := "java/lang/Object", name := "<init>", desc := "()V" } : Jvm.MethodName)) ∈ lw_all := lw_g (lw_at lw_m1 72 rfl) rfl
theorem q171 : (Jvm.Cond.classLink "CreditBroker" (13 : Nat) "CreditBroker$World") ∈ lw_all := lw_g (lw_at lw_m1 75 rfl) rfl
theorem q173 : (Jvm.Cond.methodLinkNest "CreditBroker" (15 : Nat) ({ cls := "CreditBroker$World", name := "<init>", desc := "()V" } : Jvm.MethodName) "CreditBroker") ∈ lw_tbl := lw_at lw_m1 77 rfl
theorem q232 : (Jvm.Cond.fieldLink "CreditBroker" (43 : Nat) "CreditBroker$World" "queues" "Ljava/util/ArrayList;") ∈ lw_all := lw_g (lw_at lw_m1 136 rfl) rfl
theorem q234 : (Jvm.Cond.fieldLink "CreditBroker" (52 : Nat) "CreditBroker$World" "consumers" "Ljava/util/ArrayList;") ∈ lw_all := lw_g (lw_at lw_m1 138 rfl) rfl
theorem q236 : (Jvm.Cond.fieldLink "CreditBroker" (259 : Nat) "CreditBroker$World" "messages" "Ljava/util/ArrayList;") ∈ lw_all := lw_g (lw_at lw_m1 140 rfl) rfl
theorem q238 : (Jvm.Cond.fieldLink "CreditBroker" (69 : Nat) "CreditBroker$World" "dead" "Ljava/util/LinkedList;") ∈ lw_all := lw_g (lw_at lw_m1 142 rfl) rfl
theorem q240 : (Jvm.Cond.fieldLink "CreditBroker" (207 : Nat) "CreditBroker$World" "topic" "LCreditBroker$Pattern;") ∈ lw_all := lw_g (lw_at lw_m1 144 rfl) rfl
theorem q242 : (Jvm.Cond.fieldLink "CreditBroker" (484 : Nat) "CreditBroker$World" "time" "I") ∈ lw_all := lw_g (lw_at lw_m1 146 rfl) rfl
theorem q244 : (Jvm.Cond.fieldLink "CreditBroker" (473 : Nat) "CreditBroker$World" "seed" "I") ∈ lw_all := lw_g (lw_at lw_m1 148 rfl) rfl
theorem q260 : (Jvm.Cond.classLink "CreditBroker" (25 : Nat) "CreditBroker$Sheet") ∈ lw_all := lw_g (lw_at lw_m1 164 rfl) rfl
theorem q263 : (Jvm.Cond.methodLinkNest "CreditBroker" (38 : Nat) ({ cls := "CreditBroker$Sheet", name := "<init>", desc := "()V" } : Jvm.MethodName) "CreditBroker") ∈ lw_tbl := lw_at lw_m1 167 rfl
theorem q267 : (Jvm.Cond.fieldLink "CreditBroker" (112 : Nat) "CreditBroker$Sheet" "held" "Ljava/lang/Object;") ∈ lw_all := lw_g (lw_at lw_m1 171 rfl) rfl
theorem q272 : (Jvm.Cond.fieldLink "CreditBroker" (16 : Nat) "CreditBroker" "now" "LCreditBroker$World;") ∈ lw_all := lw_g (lw_at lw_m1 176 rfl) rfl
theorem q273 : (Jvm.Cond.fieldLink "CreditBroker" (22 : Nat) "CreditBroker" "kept" "LCreditBroker$World;") ∈ lw_all := lw_g (lw_at lw_m1 177 rfl) rfl
theorem q274 : (Jvm.Cond.fieldLink "CreditBroker" (476 : Nat) "CreditBroker" "isKept" "Z") ∈ lw_all := lw_g (lw_at lw_m1 178 rfl) rfl
theorem q275 : (Jvm.Cond.fieldLink "CreditBroker" (27 : Nat) "CreditBroker" "shelves" "[LCreditBroker$Sheet;") ∈ lw_all := lw_g (lw_at lw_m1 179 rfl) rfl
theorem q277 : (Jvm.Cond.fieldLink "CreditBroker" (31 : Nat) "CreditBroker" "tape" "[I") ∈ lw_all := lw_g (lw_at lw_m1 181 rfl) rfl
theorem q279 : (Jvm.Cond.fieldLink "CreditBroker" (196 : Nat) "CreditBroker" "size" "I") ∈ lw_all := lw_g (lw_at lw_m1 183 rfl) rfl
theorem q280 : (Jvm.Cond.fieldLink "CreditBroker" (35 : Nat) "CreditBroker" "refused" "[I") ∈ lw_all := lw_g (lw_at lw_m1 184 rfl) rfl
theorem q281 : (Jvm.Cond.laysFinal "CreditBroker" "CreditBroker" "now" "LCreditBroker$World;") ∈ lw_all := lw_g (lw_at lw_m1 185 rfl) rfl
theorem q282 : (Jvm.Cond.soleField "CreditBroker" "now") ∈ lw_all := lw_g (lw_at lw_m1 186 rfl) rfl
theorem q283 : (Jvm.Cond.laysFinal "CreditBroker" "CreditBroker" "kept" "LCreditBroker$World;") ∈ lw_all := lw_g (lw_at lw_m1 187 rfl) rfl
theorem q284 : (Jvm.Cond.soleField "CreditBroker" "kept") ∈ lw_all := lw_g (lw_at lw_m1 188 rfl) rfl
theorem q285 : (Jvm.Cond.lays "CreditBroker" "CreditBroker" "isKept" "Z") ∈ lw_all := lw_g (lw_at lw_m1 189 rfl) rfl
theorem q286 : (Jvm.Cond.soleField "CreditBroker" "isKept") ∈ lw_all := lw_g (lw_at lw_m1 190 rfl) rfl
theorem q287 : (Jvm.Cond.laysFinal "CreditBroker" "CreditBroker" "shelves" "[LCreditBroker$Sheet;") ∈ lw_all := lw_g (lw_at lw_m1 191 rfl) rfl
theorem q288 : (Jvm.Cond.soleField "CreditBroker" "shelves") ∈ lw_all := lw_g (lw_at lw_m1 192 rfl) rfl
theorem q289 : (Jvm.Cond.laysFinal "CreditBroker" "CreditBroker" "tape" "[I") ∈ lw_all := lw_g (lw_at lw_m1 193 rfl) rfl
theorem q290 : (Jvm.Cond.soleField "CreditBroker" "tape") ∈ lw_all := lw_g (lw_at lw_m1 194 rfl) rfl
theorem q291 : (Jvm.Cond.lays "CreditBroker" "CreditBroker" "size" "I") ∈ lw_all := lw_g (lw_at lw_m1 195 rfl) rfl
theorem q292 : (Jvm.Cond.soleField "CreditBroker" "size") ∈ lw_all := lw_g (lw_at lw_m1 196 rfl) rfl
theorem q293 : (Jvm.Cond.laysFinal "CreditBroker" "CreditBroker" "refused" "[I") ∈ lw_all := lw_g (lw_at lw_m1 197 rfl) rfl
theorem q294 : (Jvm.Cond.soleField "CreditBroker" "refused") ∈ lw_all := lw_g (lw_at lw_m1 198 rfl) rfl
theorem q295 : (Jvm.Cond.superclass "CreditBroker" "java/lang/Object") ∈ lw_all := lw_g (lw_at lw_m1 199 rfl) rfl
theorem q297 : (Jvm.Cond.instanceMethod ({ cls := "CreditBroker", name := "row", desc := "(III)I" } : Jvm.MethodName)) ∈ lw_all := lw_g (lw_at lw_m1 201 rfl) rfl
theorem q298 : (Jvm.Cond.selects "CreditBroker" ({ cls := "CreditBroker", name := "row", desc := "(III)I" } : Jvm.MethodName) ({ cls := "CreditBroker", name := "row", desc := "(III)I" } : Jvm.MethodName)) ∈ lw_all := lw_g (lw_at lw_m1 202 rfl) rfl
theorem q299 : (Jvm.Cond.codeWith ({ cls := "CreditBroker", name := "row", desc := "(III)I" } : Jvm.MethodName) prog_1_method_17_code (5 : Nat) (Option.some Jvm.ClassFile.FieldType.int) [((29 : Nat), (43 : Nat), (46 : Nat), (116 : Nat))]) ∈ lw_all := lw_g (lw_at lw_m1 203 rfl) rfl
theorem q300 : (Jvm.Cond.classLink "CreditBroker" (116 : Nat) "java/lang/NegativeArraySizeException") ∈ lw_all := lw_g (lw_at lw_m1 204 rfl) rfl
theorem q392 : (Jvm.Cond.methodLink "CreditBroker" (101 : Nat) ({ cls := "CreditBroker", name := "isShelf", desc := "(I)Z" } : Jvm.MethodName)) ∈ lw_all := lw_g (lw_at lw_m2 56 rfl) rfl
theorem q393 : (Jvm.Cond.static ({ cls := "CreditBroker", name := "isShelf", desc := "(I)Z" } : Jvm.MethodName)) ∈ lw_all := lw_g (lw_at lw_m2 57 rfl) rfl
theorem q394 : (Jvm.Cond.code ({ cls := "CreditBroker", name := "isShelf", desc := "(I)Z" } : Jvm.MethodName) prog_1_method_6_code (1 : Nat) (Option.some Jvm.ClassFile.FieldType.boolean)) ∈ lw_all := lw_g (lw_at lw_m2 58 rfl) rfl
theorem q395 : (Jvm.Cond.methodLink "CreditBroker" (39 : Nat) ({ cls := "CreditBroker", name := "isIn", desc := "(III)Z" } : Jvm.MethodName)) ∈ lw_all := lw_g (lw_at lw_m2 59 rfl) rfl
theorem q396 : (Jvm.Cond.static ({ cls := "CreditBroker", name := "isIn", desc := "(III)Z" } : Jvm.MethodName)) ∈ lw_all := lw_g (lw_at lw_m2 60 rfl) rfl
theorem q397 : (Jvm.Cond.code ({ cls := "CreditBroker", name := "isIn", desc := "(III)Z" } : Jvm.MethodName) prog_1_method_1_code (3 : Nat) (Option.some Jvm.ClassFile.FieldType.boolean)) ∈ lw_all := lw_g (lw_at lw_m2 61 rfl) rfl
theorem q398 : (Jvm.Cond.methodLink "CreditBroker" (104 : Nat) ({ cls := "CreditBroker", name := "no", desc := "(I)I" } : Jvm.MethodName)) ∈ lw_all := lw_g (lw_at lw_m2 62 rfl) rfl
theorem q399 : (Jvm.Cond.privateMethod ({ cls := "CreditBroker", name := "no", desc := "(I)I" } : Jvm.MethodName)) ∈ lw_tbl := lw_at lw_m2 63 rfl
theorem q400 : (Jvm.Cond.instanceMethod ({ cls := "CreditBroker", name := "no", desc := "(I)I" } : Jvm.MethodName)) ∈ lw_all := lw_g (lw_at lw_m2 64 rfl) rfl
theorem q401 : (Jvm.Cond.code ({ cls := "CreditBroker", name := "no", desc := "(I)I" } : Jvm.MethodName) prog_1_method_5_code (2 : Nat) (Option.some Jvm.ClassFile.FieldType.int)) ∈ lw_all := lw_g (lw_at lw_m2 65 rfl) rfl
theorem q402 : (Jvm.Cond.methodLink "CreditBroker" (108 : Nat) ({ cls := "CreditBroker", name := "rowOf", desc := "(II)Ljava/lang/Object;" } : Jvm.MethodName)) ∈ lw_all := lw_g (lw_at lw_m2 66 rfl) rfl
theorem q403 : (Jvm.Cond.static ({ cls := "CreditBroker", name := "rowOf", desc := "(II)Ljava/lang/Object;" } : Jvm.MethodName)) ∈ lw_all := lw_g (lw_at lw_m2 67 rfl) rfl
theorem q404 : (Jvm.Cond.code ({ cls := "CreditBroker", name := "rowOf", desc := "(II)Ljava/lang/Object;" } : Jvm.MethodName) prog_1_method_13_code (2 : Nat) (Option.some (Jvm.ClassFile.FieldType.object "java/lang/Object"))) ∈ lw_all := lw_g (lw_at lw_m2 68 rfl) rfl
theorem q409 : (Jvm.Cond.instanceMethod ({ cls := "CreditBroker", name := "set", desc := "(IIJ)I" } : Jvm.MethodName)) ∈ lw_all := lw_g (lw_at lw_m2 73 rfl) rfl
theorem q410 : (Jvm.Cond.selects "CreditBroker" ({ cls := "CreditBroker", name := "set", desc := "(IIJ)I" } : Jvm.MethodName) ({ cls := "CreditBroker", name := "set", desc := "(IIJ)I" } : Jvm.MethodName)) ∈ lw_all := lw_g (lw_at lw_m2 74 rfl) rfl
theorem q411 : (Jvm.Cond.codeWith ({ cls := "CreditBroker", name := "set", desc := "(IIJ)I" } : Jvm.MethodName) prog_1_method_19_code (6 : Nat) (Option.some Jvm.ClassFile.FieldType.int) [((14 : Nat), (25 : Nat), (26 : Nat), (118 : Nat)), ((14 : Nat), (25 : Nat), (38 : Nat), (134 : Nat))]) ∈ lw_all := lw_g (lw_at lw_m2 75 rfl) rfl
theorem q412 : (Jvm.Cond.classLink "CreditBroker" (118 : Nat) "CreditBroker$Refused") ∈ lw_all := lw_g (lw_at lw_m2 76 rfl) rfl
theorem q413 : (Jvm.Cond.classLink "CreditBroker" (134 : Nat) "java/lang/ArrayIndexOutOfBoundsException") ∈ lw_all := lw_g (lw_at lw_m2 77 rfl) rfl
theorem q432 : (Jvm.Cond.methodLink "CreditBroker" (123 : Nat) ({ cls := "CreditBroker", name := "rowIn", desc := "(I)Ljava/lang/Object;" } : Jvm.MethodName)) ∈ lw_all := lw_g (lw_at lw_m2 96 rfl) rfl
theorem q433 : (Jvm.Cond.privateMethod ({ cls := "CreditBroker", name := "rowIn", desc := "(I)Ljava/lang/Object;" } : Jvm.MethodName)) ∈ lw_tbl := lw_at lw_m2 97 rfl
theorem q434 : (Jvm.Cond.instanceMethod ({ cls := "CreditBroker", name := "rowIn", desc := "(I)Ljava/lang/Object;" } : Jvm.MethodName)) ∈ lw_all := lw_g (lw_at lw_m2 98 rfl) rfl
theorem q435 : (Jvm.Cond.code ({ cls := "CreditBroker", name := "rowIn", desc := "(I)Ljava/lang/Object;" } : Jvm.MethodName) prog_1_method_18_code (3 : Nat) (Option.some (Jvm.ClassFile.FieldType.object "java/lang/Object"))) ∈ lw_all := lw_g (lw_at lw_m2 99 rfl) rfl
theorem q436 : (Jvm.Cond.classLink "CreditBroker" (2 : Nat) "CreditBroker$Cause") ∈ lw_all := lw_g (lw_at lw_m2 100 rfl) rfl
theorem q445 : (Jvm.Cond.methodLink "CreditBroker" (120 : Nat) ({ cls := "CreditBroker$Refused", name := "<init>", desc := "(I)V" } : Jvm.MethodName)) ∈ lw_all := lw_g (lw_at lw_m2 109 rfl) rfl
theorem q458 : (Jvm.Cond.fieldLink "CreditBroker" (130 : Nat) "CreditBroker$Refused" "by" "I") ∈ lw_all := lw_g (lw_at lw_m2 122 rfl) rfl
theorem q463 : (Jvm.Cond.methodLink "CreditBroker" (126 : Nat) ({ cls := "CreditBroker", name := "puts", desc := "(Ljava/lang/Object;IJ)V" } : Jvm.MethodName)) ∈ lw_all := lw_g (lw_at lw_m2 127 rfl) rfl
theorem q464 : (Jvm.Cond.static ({ cls := "CreditBroker", name := "puts", desc := "(Ljava/lang/Object;IJ)V" } : Jvm.MethodName)) ∈ lw_all := lw_g (lw_at lw_m2 128 rfl) rfl
theorem q465 : (Jvm.Cond.code ({ cls := "CreditBroker", name := "puts", desc := "(Ljava/lang/Object;IJ)V" } : Jvm.MethodName) prog_1_method_16_code (4 : Nat) (Option.none : Option Jvm.ClassFile.FieldType)) ∈ lw_all := lw_g (lw_at lw_m2 129 rfl) rfl
theorem q466 : (Jvm.Cond.methodLink "CreditBroker" (95 : Nat) ({ cls := "CreditBroker", name := "sortOf", desc := "(Ljava/lang/Object;)I" } : Jvm.MethodName)) ∈ lw_all := lw_g (lw_at lw_m2 130 rfl) rfl
theorem q467 : (Jvm.Cond.static ({ cls := "CreditBroker", name := "sortOf", desc := "(Ljava/lang/Object;)I" } : Jvm.MethodName)) ∈ lw_all := lw_g (lw_at lw_m2 131 rfl) rfl
theorem q468 : (Jvm.Cond.code ({ cls := "CreditBroker", name := "sortOf", desc := "(Ljava/lang/Object;)I" } : Jvm.MethodName) prog_1_method_14_code (1 : Nat) (Option.some Jvm.ClassFile.FieldType.int)) ∈ lw_all := lw_g (lw_at lw_m2 132 rfl) rfl
theorem q469 : (Jvm.Cond.classLink "CreditBroker" (88 : Nat) "[B") ∈ lw_all := lw_g (lw_at lw_m2 133 rfl) rfl
theorem q470 : (Jvm.Cond.classLink "CreditBroker" (90 : Nat) "[S") ∈ lw_all := lw_g (lw_at lw_m2 134 rfl) rfl
theorem q471 : (Jvm.Cond.classLink "CreditBroker" (92 : Nat) "[I") ∈ lw_all := lw_g (lw_at lw_m2 135 rfl) rfl
theorem q472 : (Jvm.Cond.classLink "CreditBroker" (93 : Nat) "[J") ∈ lw_all := lw_g (lw_at lw_m2 136 rfl) rfl
theorem q473 : (Jvm.Cond.classLink "CreditBroker" (99 : Nat) "[Z") ∈ lw_all := lw_g (lw_at lw_m2 137 rfl) rfl
theorem q475 : (Jvm.Cond.instanceMethod ({ cls := "CreditBroker", name := "copy", desc := "(IIIII)I" } : Jvm.MethodName)) ∈ lw_all := lw_g (lw_at lw_m2 139 rfl) rfl
theorem q476 : (Jvm.Cond.selects "CreditBroker" ({ cls := "CreditBroker", name := "copy", desc := "(IIIII)I" } : Jvm.MethodName) ({ cls := "CreditBroker", name := "copy", desc := "(IIIII)I" } : Jvm.MethodName)) ∈ lw_all := lw_g (lw_at lw_m2 140 rfl) rfl
theorem q477 : (Jvm.Cond.codeWith ({ cls := "CreditBroker", name := "copy", desc := "(IIIII)I" } : Jvm.MethodName) prog_1_method_20_code (9 : Nat) (Option.some Jvm.ClassFile.FieldType.int) [((66 : Nat), (80 : Nat), (81 : Nat), (142 : Nat)), ((66 : Nat), (80 : Nat), (90 : Nat), (144 : Nat)), ((66 : Nat), (80 : Nat), (99 : Nat), (146 : Nat))]) ∈ lw_all := lw_g (lw_at lw_m2 141 rfl) rfl
theorem q478 : (Jvm.Cond.classLink "CreditBroker" (142 : Nat) "java/lang/NullPointerException") ∈ lw_all := lw_g (lw_at lw_m2 142 rfl) rfl
theorem q503 : (Jvm.Cond.classLink "CreditBroker" (144 : Nat) "java/lang/ArrayStoreException") ∈ lw_all := lw_g (lw_at lw_m2 167 rfl) rfl
theorem q517 : (Jvm.Cond.classLink "CreditBroker" (146 : Nat) "java/lang/IndexOutOfBoundsException") ∈ lw_all := lw_g (lw_at lw_m2 181 rfl) rfl
theorem q518 : (Jvm.Cond.methodLink "CreditBroker" (136 : Nat) ({ cls := "java/lang/System", name := "arraycopy", desc := "(Ljava/lang/Object;ILjava/lang/Object;II)V" } : Jvm.MethodName)) ∈ lw_all := lw_g (lw_at lw_m2 182 rfl) rfl
theorem q522 : (Jvm.Cond.instanceMethod ({ cls := "CreditBroker", name := "element", desc := "(II)J" } : Jvm.MethodName)) ∈ lw_all := lw_g (lw_at lw_m2 186 rfl) rfl
theorem q523 : (Jvm.Cond.selects "CreditBroker" ({ cls := "CreditBroker", name := "element", desc := "(II)J" } : Jvm.MethodName) ({ cls := "CreditBroker", name := "element", desc := "(II)J" } : Jvm.MethodName)) ∈ lw_all := lw_g (lw_at lw_m2 187 rfl) rfl
theorem q524 : (Jvm.Cond.codeWith ({ cls := "CreditBroker", name := "element", desc := "(II)J" } : Jvm.MethodName) prog_1_method_21_code (4 : Nat) (Option.some Jvm.ClassFile.FieldType.long) [((9 : Nat), (18 : Nat), (19 : Nat), (118 : Nat)), ((9 : Nat), (18 : Nat), (22 : Nat), (134 : Nat))]) ∈ lw_all := lw_g (lw_at lw_m2 188 rfl) rfl
theorem q525 : (Jvm.Cond.methodLink "CreditBroker" (148 : Nat) ({ cls := "CreditBroker", name := "elementOf", desc := "(Ljava/lang/Object;I)J" } : Jvm.MethodName)) ∈ lw_all := lw_g (lw_at lw_m2 189 rfl) rfl
theorem q526 : (Jvm.Cond.static ({ cls := "CreditBroker", name := "elementOf", desc := "(Ljava/lang/Object;I)J" } : Jvm.MethodName)) ∈ lw_all := lw_g (lw_at lw_m2 190 rfl) rfl
theorem q527 : (Jvm.Cond.code ({ cls := "CreditBroker", name := "elementOf", desc := "(Ljava/lang/Object;I)J" } : Jvm.MethodName) prog_1_method_15_code (2 : Nat) (Option.some Jvm.ClassFile.FieldType.long)) ∈ lw_all := lw_g (lw_at lw_m2 191 rfl) rfl
theorem q529 : (Jvm.Cond.instanceMethod ({ cls := "CreditBroker", name := "holds", desc := "(I)I" } : Jvm.MethodName)) ∈ lw_all := lw_g (lw_at lw_m2 193 rfl) rfl
theorem q530 : (Jvm.Cond.selects "CreditBroker" ({ cls := "CreditBroker", name := "holds", desc := "(I)I" } : Jvm.MethodName) ({ cls := "CreditBroker", name := "holds", desc := "(I)I" } : Jvm.MethodName)) ∈ lw_all := lw_g (lw_at lw_m2 194 rfl) rfl
theorem q531 : (Jvm.Cond.code ({ cls := "CreditBroker", name := "holds", desc := "(I)I" } : Jvm.MethodName) prog_1_method_22_code (3 : Nat) (Option.some Jvm.ClassFile.FieldType.int)) ∈ lw_all := lw_g (lw_at lw_m2 195 rfl) rfl
theorem q532 : (Jvm.Cond.methodLink "CreditBroker" (152 : Nat) ({ cls := "CreditBroker$Cause", name := "kind", desc := "()I" } : Jvm.MethodName)) ∈ lw_all := lw_g (lw_at lw_m2 196 rfl) rfl
theorem q565 : (Jvm.Cond.instanceMethod ({ cls := "CreditBroker", name := "show", desc := "(III)I" } : Jvm.MethodName)) ∈ lw_all := lw_g (lw_at lw_m2 229 rfl) rfl
theorem q566 : (Jvm.Cond.selects "CreditBroker" ({ cls := "CreditBroker", name := "show", desc := "(III)I" } : Jvm.MethodName) ({ cls := "CreditBroker", name := "show", desc := "(III)I" } : Jvm.MethodName)) ∈ lw_all := lw_g (lw_at lw_m2 230 rfl) rfl
theorem q567 : (Jvm.Cond.code ({ cls := "CreditBroker", name := "show", desc := "(III)I" } : Jvm.MethodName) prog_1_method_23_code (4 : Nat) (Option.some Jvm.ClassFile.FieldType.int)) ∈ lw_all := lw_g (lw_at lw_m2 231 rfl) rfl
theorem q568 : (Jvm.Cond.methodLink "CreditBroker" (155 : Nat) ({ cls := "CreditBroker", name := "isLink", desc := "(II)Z" } : Jvm.MethodName)) ∈ lw_all := lw_g (lw_at lw_m2 232 rfl) rfl
theorem q569 : (Jvm.Cond.privateMethod ({ cls := "CreditBroker", name := "isLink", desc := "(II)Z" } : Jvm.MethodName)) ∈ lw_tbl := lw_at lw_m2 233 rfl
theorem q570 : (Jvm.Cond.instanceMethod ({ cls := "CreditBroker", name := "isLink", desc := "(II)Z" } : Jvm.MethodName)) ∈ lw_all := lw_g (lw_at lw_m2 234 rfl) rfl
theorem q571 : (Jvm.Cond.code ({ cls := "CreditBroker", name := "isLink", desc := "(II)Z" } : Jvm.MethodName) prog_1_method_12_code (3 : Nat) (Option.some Jvm.ClassFile.FieldType.boolean)) ∈ lw_all := lw_g (lw_at lw_m2 235 rfl) rfl
theorem q572 : (Jvm.Cond.methodLink "CreditBroker" (78 : Nat) ({ cls := "CreditBroker", name := "isDead", desc := "(I)Z" } : Jvm.MethodName)) ∈ lw_all := lw_g (lw_at lw_m2 236 rfl) rfl
theorem q573 : (Jvm.Cond.privateMethod ({ cls := "CreditBroker", name := "isDead", desc := "(I)Z" } : Jvm.MethodName)) ∈ lw_tbl := lw_at lw_m2 237 rfl
theorem q574 : (Jvm.Cond.instanceMethod ({ cls := "CreditBroker", name := "isDead", desc := "(I)Z" } : Jvm.MethodName)) ∈ lw_all := lw_g (lw_at lw_m2 238 rfl) rfl
theorem q575 : (Jvm.Cond.code ({ cls := "CreditBroker", name := "isDead", desc := "(I)Z" } : Jvm.MethodName) prog_1_method_10_code (2 : Nat) (Option.some Jvm.ClassFile.FieldType.boolean)) ∈ lw_all := lw_g (lw_at lw_m2 239 rfl) rfl
theorem q576 : (Jvm.Cond.methodLink "CreditBroker" (73 : Nat) ({ cls := "java/util/LinkedList", name := "size", desc := "()I" } : Jvm.MethodName)) ∈ lw_all := lw_g (lw_at lw_m3 0 rfl) rfl
theorem q580 : (Jvm.Cond.methodLink "CreditBroker" (81 : Nat) ({ cls := "java/util/LinkedList", name := "get", desc := "(I)Ljava/lang/Object;" } : Jvm.MethodName)) ∈ lw_all := lw_g (lw_at lw_m3 4 rfl) rfl
theorem q848 : (Jvm.Cond.classLink "CreditBroker" (82 : Nat) "CreditBroker$Corpse") ∈ lw_all := lw_g (lw_at lw_m4 32 rfl) rfl
theorem q849 : (Jvm.Cond.methodLink "CreditBroker" (1 : Nat) ({ cls := "CreditBroker$Cause", name := "depth", desc := "()I" } : Jvm.MethodName)) ∈ lw_all := lw_g (lw_at lw_m4 33 rfl) rfl
theorem q857 : (Jvm.Cond.methodLink "CreditBroker" (159 : Nat) ({ cls := "CreditBroker$Cause", name := "link", desc := "(I)LCreditBroker$Cause;" } : Jvm.MethodName)) ∈ lw_all := lw_g (lw_at lw_m4 41 rfl) rfl
theorem q867 : (Jvm.Cond.instanceMethod ({ cls := "CreditBroker", name := "says", desc := "(II)I" } : Jvm.MethodName)) ∈ lw_all := lw_g (lw_at lw_m4 51 rfl) rfl
theorem q868 : (Jvm.Cond.selects "CreditBroker" ({ cls := "CreditBroker", name := "says", desc := "(II)I" } : Jvm.MethodName) ({ cls := "CreditBroker", name := "says", desc := "(II)I" } : Jvm.MethodName)) ∈ lw_all := lw_g (lw_at lw_m4 52 rfl) rfl
theorem q869 : (Jvm.Cond.codeWith ({ cls := "CreditBroker", name := "says", desc := "(II)I" } : Jvm.MethodName) prog_1_method_24_code (5 : Nat) (Option.some Jvm.ClassFile.FieldType.int) [((45 : Nat), (151 : Nat), (152 : Nat), (194 : Nat))]) ∈ lw_all := lw_g (lw_at lw_m4 53 rfl) rfl
theorem q870 : (Jvm.Cond.classLink "CreditBroker" (194 : Nat) "java/lang/ClassCastException") ∈ lw_all := lw_g (lw_at lw_m4 54 rfl) rfl
theorem q884 : (Jvm.Cond.classLink "CreditBroker" (166 : Nat) "CreditBroker$Failure") ∈ lw_all := lw_g (lw_at lw_m4 68 rfl) rfl
theorem q885 : (Jvm.Cond.classLink "CreditBroker" (171 : Nat) "CreditBroker$Loss") ∈ lw_all := lw_g (lw_at lw_m4 69 rfl) rfl
theorem q886 : (Jvm.Cond.methodLink "CreditBroker" (173 : Nat) ({ cls := "CreditBroker$Loss", name := "causes", desc := "()I" } : Jvm.MethodName)) ∈ lw_all := lw_g (lw_at lw_m4 70 rfl) rfl
theorem q893 : (Jvm.Cond.static ({ cls := "CreditBroker", name := "depthOf", desc := "(LCreditBroker$Cause;)I" } : Jvm.MethodName)) ∈ lw_all := lw_g (lw_at lw_m4 77 rfl) rfl
theorem q894 : (Jvm.Cond.code ({ cls := "CreditBroker", name := "depthOf", desc := "(LCreditBroker$Cause;)I" } : Jvm.MethodName) prog_1_method_3_code (1 : Nat) (Option.some Jvm.ClassFile.FieldType.int)) ∈ lw_all := lw_g (lw_at lw_m4 78 rfl) rfl
theorem q895 : (Jvm.Cond.classLink "CreditBroker" (176 : Nat) "CreditBroker$Rejected") ∈ lw_all := lw_g (lw_at lw_m4 79 rfl) rfl
theorem q896 : (Jvm.Cond.methodLink "CreditBroker" (178 : Nat) ({ cls := "CreditBroker$Rejected", name := "who", desc := "()I" } : Jvm.MethodName)) ∈ lw_all := lw_g (lw_at lw_m4 80 rfl) rfl
theorem q900 : (Jvm.Cond.classLink "CreditBroker" (181 : Nat) "CreditBroker$Late") ∈ lw_all := lw_g (lw_at lw_m4 84 rfl) rfl
theorem q901 : (Jvm.Cond.methodLink "CreditBroker" (183 : Nat) ({ cls := "CreditBroker$Late", name := "who", desc := "()I" } : Jvm.MethodName)) ∈ lw_all := lw_g (lw_at lw_m4 85 rfl) rfl
theorem q905 : (Jvm.Cond.classLink "CreditBroker" (184 : Nat) "CreditBroker$Old") ∈ lw_all := lw_g (lw_at lw_m4 89 rfl) rfl
theorem q906 : (Jvm.Cond.methodLink "CreditBroker" (186 : Nat) ({ cls := "CreditBroker$Old", name := "age", desc := "()I" } : Jvm.MethodName)) ∈ lw_all := lw_g (lw_at lw_m4 90 rfl) rfl
theorem q910 : (Jvm.Cond.classLink "CreditBroker" (189 : Nat) "CreditBroker$Overfull") ∈ lw_all := lw_g (lw_at lw_m4 94 rfl) rfl
theorem q911 : (Jvm.Cond.methodLink "CreditBroker" (191 : Nat) ({ cls := "CreditBroker$Overfull", name := "limit", desc := "()I" } : Jvm.MethodName)) ∈ lw_all := lw_g (lw_at lw_m4 95 rfl) rfl
theorem q916 : (Jvm.Cond.instanceMethod ({ cls := "CreditBroker", name := "feed", desc := "(I)I" } : Jvm.MethodName)) ∈ lw_all := lw_g (lw_at lw_m4 100 rfl) rfl
theorem q917 : (Jvm.Cond.selects "CreditBroker" ({ cls := "CreditBroker", name := "feed", desc := "(I)I" } : Jvm.MethodName) ({ cls := "CreditBroker", name := "feed", desc := "(I)I" } : Jvm.MethodName)) ∈ lw_all := lw_g (lw_at lw_m4 101 rfl) rfl
theorem q918 : (Jvm.Cond.code ({ cls := "CreditBroker", name := "feed", desc := "(I)I" } : Jvm.MethodName) prog_1_method_25_code (2 : Nat) (Option.some Jvm.ClassFile.FieldType.int)) ∈ lw_all := lw_g (lw_at lw_m4 102 rfl) rfl
theorem q920 : (Jvm.Cond.instanceMethod ({ cls := "CreditBroker", name := "wipe", desc := "()I" } : Jvm.MethodName)) ∈ lw_all := lw_g (lw_at lw_m4 104 rfl) rfl
theorem q921 : (Jvm.Cond.selects "CreditBroker" ({ cls := "CreditBroker", name := "wipe", desc := "()I" } : Jvm.MethodName) ({ cls := "CreditBroker", name := "wipe", desc := "()I" } : Jvm.MethodName)) ∈ lw_all := lw_g (lw_at lw_m4 105 rfl) rfl
theorem q922 : (Jvm.Cond.code ({ cls := "CreditBroker", name := "wipe", desc := "()I" } : Jvm.MethodName) prog_1_method_26_code (2 : Nat) (Option.some Jvm.ClassFile.FieldType.int)) ∈ lw_all := lw_g (lw_at lw_m4 106 rfl) rfl
theorem q924 : (Jvm.Cond.instanceMethod ({ cls := "CreditBroker", name := "topic", desc := "()I" } : Jvm.MethodName)) ∈ lw_all := lw_g (lw_at lw_m4 108 rfl) rfl
theorem q925 : (Jvm.Cond.selects "CreditBroker" ({ cls := "CreditBroker", name := "topic", desc := "()I" } : Jvm.MethodName) ({ cls := "CreditBroker", name := "topic", desc := "()I" } : Jvm.MethodName)) ∈ lw_all := lw_g (lw_at lw_m4 109 rfl) rfl
theorem q926 : (Jvm.Cond.codeWith ({ cls := "CreditBroker", name := "topic", desc := "()I" } : Jvm.MethodName) prog_1_method_27_code (4 : Nat) (Option.some Jvm.ClassFile.FieldType.int) [((0 : Nat), (30 : Nat), (37 : Nat), (216 : Nat)), ((0 : Nat), (30 : Nat), (61 : Nat), (0 : Nat)), ((37 : Nat), (54 : Nat), (61 : Nat), (0 : Nat))]) ∈ lw_all := lw_g (lw_at lw_m4 110 rfl) rfl
theorem q927 : (Jvm.Cond.classLink "CreditBroker" (216 : Nat) "CreditBroker$Fault") ∈ lw_all := lw_g (lw_at lw_m4 111 rfl) rfl
theorem q928 : (Jvm.Cond.classLink "CreditBroker" (198 : Nat) "CreditBroker$Reader") ∈ lw_all := lw_g (lw_at lw_m4 112 rfl) rfl
theorem q930 : (Jvm.Cond.methodLinkNest "CreditBroker" (200 : Nat) ({ cls := "CreditBroker$Reader", name := "<init>", desc := "(LCreditBroker;)V" } : Jvm.MethodName) "CreditBroker") ∈ lw_tbl := lw_at lw_m4 114 rfl
theorem q941 : (Jvm.Cond.methodLink "CreditBroker" (203 : Nat) ({ cls := "CreditBroker$Reader", name := "pattern", desc := "(Z)LCreditBroker$Pattern;" } : Jvm.MethodName)) ∈ lw_all := lw_g (lw_at lw_m4 125 rfl) rfl
theorem q1021 : (Jvm.Cond.fieldLink "CreditBroker" (218 : Nat) "CreditBroker$Fault" "place" "I") ∈ lw_all := lw_g (lw_at lw_m4 205 rfl) rfl
theorem q1062 : (Jvm.Cond.selects "CreditBroker" ({ cls := "java/lang/Object", name := "getClass", desc := "()Ljava/lang/Class;" } : Jvm.MethodName) ({ cls := "java/lang/Object", name := "getClass", desc := "()Ljava/lang/Class;" } : Jvm.MethodName)) ∈ lw_all := lw_g (lw_at lw_m5 6 rfl) rfl
theorem q1115 : (Jvm.Cond.methodLink "CreditBroker" (211 : Nat) ({ cls := "CreditBroker$Pattern", name := "many", desc := "()I" } : Jvm.MethodName)) ∈ lw_all := lw_g (lw_at lw_m5 59 rfl) rfl
theorem q1124 : (Jvm.Cond.instanceMethod ({ cls := "CreditBroker", name := "queue", desc := "(IIII)I" } : Jvm.MethodName)) ∈ lw_all := lw_g (lw_at lw_m5 68 rfl) rfl
theorem q1125 : (Jvm.Cond.selects "CreditBroker" ({ cls := "CreditBroker", name := "queue", desc := "(IIII)I" } : Jvm.MethodName) ({ cls := "CreditBroker", name := "queue", desc := "(IIII)I" } : Jvm.MethodName)) ∈ lw_all := lw_g (lw_at lw_m5 69 rfl) rfl
theorem q1126 : (Jvm.Cond.code ({ cls := "CreditBroker", name := "queue", desc := "(IIII)I" } : Jvm.MethodName) prog_1_method_29_code (6 : Nat) (Option.some Jvm.ClassFile.FieldType.int)) ∈ lw_all := lw_g (lw_at lw_m5 70 rfl) rfl
theorem q1127 : (Jvm.Cond.methodLink "CreditBroker" (228 : Nat) ({ cls := "CreditBroker", name := "are", desc := "([Z)Z" } : Jvm.MethodName)) ∈ lw_all := lw_g (lw_at lw_m5 71 rfl) rfl
theorem q1128 : (Jvm.Cond.static ({ cls := "CreditBroker", name := "are", desc := "([Z)Z" } : Jvm.MethodName)) ∈ lw_all := lw_g (lw_at lw_m5 72 rfl) rfl
theorem q1129 : (Jvm.Cond.code ({ cls := "CreditBroker", name := "are", desc := "([Z)Z" } : Jvm.MethodName) prog_1_method_2_code (6 : Nat) (Option.some Jvm.ClassFile.FieldType.boolean)) ∈ lw_all := lw_g (lw_at lw_m5 73 rfl) rfl
theorem q1130 : (Jvm.Cond.methodLink "CreditBroker" (232 : Nat) ({ cls := "CreditBroker", name := "queued", desc := "([I)I" } : Jvm.MethodName)) ∈ lw_all := lw_g (lw_at lw_m5 74 rfl) rfl
theorem q1131 : (Jvm.Cond.privateMethod ({ cls := "CreditBroker", name := "queued", desc := "([I)I" } : Jvm.MethodName)) ∈ lw_tbl := lw_at lw_m5 75 rfl
theorem q1132 : (Jvm.Cond.instanceMethod ({ cls := "CreditBroker", name := "queued", desc := "([I)I" } : Jvm.MethodName)) ∈ lw_all := lw_g (lw_at lw_m5 76 rfl) rfl
theorem q1133 : (Jvm.Cond.codeWith ({ cls := "CreditBroker", name := "queued", desc := "([I)I" } : Jvm.MethodName) prog_1_method_28_code (5 : Nat) (Option.some Jvm.ClassFile.FieldType.int) [((0 : Nat), (35 : Nat), (92 : Nat), (216 : Nat)), ((42 : Nat), (85 : Nat), (92 : Nat), (216 : Nat)), ((0 : Nat), (35 : Nat), (116 : Nat), (0 : Nat)), ((42 : Nat), (85 : Nat), (116 : Nat), (0 : Nat)), ((92 : Nat), (109 : Nat), (116 : Nat), (0 : Nat)), ((116 : Nat), (118 : Nat), (116 : Nat), (0 : Nat))]) ∈ lw_all := lw_g (lw_at lw_m5 77 rfl) rfl
theorem q1134 : (Jvm.Cond.methodLink "CreditBroker" (47 : Nat) ({ cls := "java/util/ArrayList", name := "size", desc := "()I" } : Jvm.MethodName)) ∈ lw_all := lw_g (lw_at lw_m5 78 rfl) rfl
theorem q1135 : (Jvm.Cond.classLink "CreditBroker" (76 : Nat) "CreditBroker$Queue") ∈ lw_all := lw_g (lw_at lw_m5 79 rfl) rfl
theorem q1137 : (Jvm.Cond.methodLink "CreditBroker" (221 : Nat) ({ cls := "CreditBroker$Queue", name := "<init>", desc := "(ILCreditBroker$Pattern;[I)V" } : Jvm.MethodName)) ∈ lw_all := lw_g (lw_at lw_m5 81 rfl) rfl
theorem q1152 : (Jvm.Cond.fieldLink "CreditBroker" (408 : Nat) "CreditBroker$Queue" "number" "I") ∈ lw_all := lw_g (lw_at lw_m5 96 rfl) rfl
theorem q1155 : (Jvm.Cond.fieldLink "CreditBroker" (402 : Nat) "CreditBroker$Queue" "pattern" "LCreditBroker$Pattern;") ∈ lw_all := lw_g (lw_at lw_m5 99 rfl) rfl
theorem q1166 : (Jvm.Cond.fieldLink "CreditBroker" (243 : Nat) "CreditBroker$Queue" "isExclusive" "Z") ∈ lw_all := lw_g (lw_at lw_m5 110 rfl) rfl
theorem q1169 : (Jvm.Cond.fieldLink "CreditBroker" (334 : Nat) "CreditBroker$Queue" "letters" "Ljava/util/ArrayList;") ∈ lw_all := lw_g (lw_at lw_m5 113 rfl) rfl
theorem q1175 : (Jvm.Cond.fieldLink "CreditBroker" (356 : Nat) "CreditBroker$Queue" "given" "I") ∈ lw_all := lw_g (lw_at lw_m5 119 rfl) rfl
theorem q1178 : (Jvm.Cond.fieldLink "CreditBroker" (359 : Nat) "CreditBroker$Queue" "acknowledged" "I") ∈ lw_all := lw_g (lw_at lw_m5 122 rfl) rfl
theorem q1181 : (Jvm.Cond.fieldLink "CreditBroker" (362 : Nat) "CreditBroker$Queue" "died" "I") ∈ lw_all := lw_g (lw_at lw_m5 125 rfl) rfl
theorem q1209 : (Jvm.Cond.methodLink "CreditBroker" (224 : Nat) ({ cls := "java/util/ArrayList", name := "add", desc := "(Ljava/lang/Object;)Z" } : Jvm.MethodName)) ∈ lw_all := lw_g (lw_at lw_m5 153 rfl) rfl
theorem q1211 : (Jvm.Cond.instanceMethod ({ cls := "CreditBroker", name := "exclusive", desc := "(II)I" } : Jvm.MethodName)) ∈ lw_all := lw_g (lw_at lw_m5 155 rfl) rfl
theorem q1212 : (Jvm.Cond.selects "CreditBroker" ({ cls := "CreditBroker", name := "exclusive", desc := "(II)I" } : Jvm.MethodName) ({ cls := "CreditBroker", name := "exclusive", desc := "(II)I" } : Jvm.MethodName)) ∈ lw_all := lw_g (lw_at lw_m5 156 rfl) rfl
theorem q1213 : (Jvm.Cond.code ({ cls := "CreditBroker", name := "exclusive", desc := "(II)I" } : Jvm.MethodName) prog_1_method_30_code (4 : Nat) (Option.some Jvm.ClassFile.FieldType.int)) ∈ lw_all := lw_g (lw_at lw_m5 157 rfl) rfl
theorem q1214 : (Jvm.Cond.methodLink "CreditBroker" (236 : Nat) ({ cls := "CreditBroker", name := "isQueue", desc := "(I)Z" } : Jvm.MethodName)) ∈ lw_all := lw_g (lw_at lw_m5 158 rfl) rfl
theorem q1215 : (Jvm.Cond.privateMethod ({ cls := "CreditBroker", name := "isQueue", desc := "(I)Z" } : Jvm.MethodName)) ∈ lw_tbl := lw_at lw_m5 159 rfl
theorem q1216 : (Jvm.Cond.instanceMethod ({ cls := "CreditBroker", name := "isQueue", desc := "(I)Z" } : Jvm.MethodName)) ∈ lw_all := lw_g (lw_at lw_m5 160 rfl) rfl
theorem q1217 : (Jvm.Cond.code ({ cls := "CreditBroker", name := "isQueue", desc := "(I)Z" } : Jvm.MethodName) prog_1_method_7_code (2 : Nat) (Option.some Jvm.ClassFile.FieldType.boolean)) ∈ lw_all := lw_g (lw_at lw_m5 161 rfl) rfl
theorem q1218 : (Jvm.Cond.methodLink "CreditBroker" (239 : Nat) ({ cls := "CreditBroker", name := "queue", desc := "(I)LCreditBroker$Queue;" } : Jvm.MethodName)) ∈ lw_all := lw_g (lw_at lw_m5 162 rfl) rfl
theorem q1219 : (Jvm.Cond.privateMethod ({ cls := "CreditBroker", name := "queue", desc := "(I)LCreditBroker$Queue;" } : Jvm.MethodName)) ∈ lw_tbl := lw_at lw_m5 163 rfl
theorem q1220 : (Jvm.Cond.instanceMethod ({ cls := "CreditBroker", name := "queue", desc := "(I)LCreditBroker$Queue;" } : Jvm.MethodName)) ∈ lw_all := lw_g (lw_at lw_m5 164 rfl) rfl
theorem q1221 : (Jvm.Cond.code ({ cls := "CreditBroker", name := "queue", desc := "(I)LCreditBroker$Queue;" } : Jvm.MethodName) prog_1_method_11_code (2 : Nat) (Option.some (Jvm.ClassFile.FieldType.object "CreditBroker$Queue"))) ∈ lw_all := lw_g (lw_at lw_m5 165 rfl) rfl
theorem q1222 : (Jvm.Cond.methodLink "CreditBroker" (59 : Nat) ({ cls := "java/util/ArrayList", name := "get", desc := "(I)Ljava/lang/Object;" } : Jvm.MethodName)) ∈ lw_all := lw_g (lw_at lw_m5 166 rfl) rfl
theorem q1235 : (Jvm.Cond.instanceMethod ({ cls := "CreditBroker", name := "consumer", desc := "(I)I" } : Jvm.MethodName)) ∈ lw_all := lw_g (lw_at lw_m5 179 rfl) rfl
theorem q1236 : (Jvm.Cond.selects "CreditBroker" ({ cls := "CreditBroker", name := "consumer", desc := "(I)I" } : Jvm.MethodName) ({ cls := "CreditBroker", name := "consumer", desc := "(I)I" } : Jvm.MethodName)) ∈ lw_all := lw_g (lw_at lw_m5 180 rfl) rfl
theorem q1237 : (Jvm.Cond.code ({ cls := "CreditBroker", name := "consumer", desc := "(I)I" } : Jvm.MethodName) prog_1_method_31_code (2 : Nat) (Option.some Jvm.ClassFile.FieldType.int)) ∈ lw_all := lw_g (lw_at lw_m5 181 rfl) rfl
theorem q1238 : (Jvm.Cond.classLink "CreditBroker" (63 : Nat) "CreditBroker$Consumer") ∈ lw_all := lw_g (lw_at lw_m5 182 rfl) rfl
theorem q1240 : (Jvm.Cond.methodLink "CreditBroker" (246 : Nat) ({ cls := "CreditBroker$Consumer", name := "<init>", desc := "(II)V" } : Jvm.MethodName)) ∈ lw_all := lw_g (lw_at lw_m5 184 rfl) rfl
theorem q1246 : (Jvm.Cond.fieldLink "CreditBroker" (428 : Nat) "CreditBroker$Consumer" "number" "I") ∈ lw_all := lw_g (lw_at lw_m5 190 rfl) rfl
theorem q1249 : (Jvm.Cond.fieldLink "CreditBroker" (341 : Nat) "CreditBroker$Consumer" "queue" "I") ∈ lw_all := lw_g (lw_at lw_m5 193 rfl) rfl
theorem q1252 : (Jvm.Cond.fieldLink "CreditBroker" (256 : Nat) "CreditBroker$Consumer" "credits" "I") ∈ lw_all := lw_g (lw_at lw_m5 196 rfl) rfl
theorem q1255 : (Jvm.Cond.fieldLink "CreditBroker" (378 : Nat) "CreditBroker$Consumer" "got" "I") ∈ lw_all := lw_g (lw_at lw_m5 199 rfl) rfl
theorem q1258 : (Jvm.Cond.fieldLink "CreditBroker" (65 : Nat) "CreditBroker$Consumer" "isGone" "Z") ∈ lw_all := lw_g (lw_at lw_m5 202 rfl) rfl
theorem q1271 : (Jvm.Cond.instanceMethod ({ cls := "CreditBroker", name := "leave", desc := "(I)I" } : Jvm.MethodName)) ∈ lw_all := lw_g (lw_at lw_m5 215 rfl) rfl
theorem q1272 : (Jvm.Cond.selects "CreditBroker" ({ cls := "CreditBroker", name := "leave", desc := "(I)I" } : Jvm.MethodName) ({ cls := "CreditBroker", name := "leave", desc := "(I)I" } : Jvm.MethodName)) ∈ lw_all := lw_g (lw_at lw_m5 216 rfl) rfl
theorem q1273 : (Jvm.Cond.code ({ cls := "CreditBroker", name := "leave", desc := "(I)I" } : Jvm.MethodName) prog_1_method_32_code (2 : Nat) (Option.some Jvm.ClassFile.FieldType.int)) ∈ lw_all := lw_g (lw_at lw_m5 217 rfl) rfl
theorem q1274 : (Jvm.Cond.methodLink "CreditBroker" (249 : Nat) ({ cls := "CreditBroker", name := "isHere", desc := "(I)Z" } : Jvm.MethodName)) ∈ lw_all := lw_g (lw_at lw_m5 218 rfl) rfl
theorem q1275 : (Jvm.Cond.privateMethod ({ cls := "CreditBroker", name := "isHere", desc := "(I)Z" } : Jvm.MethodName)) ∈ lw_tbl := lw_at lw_m5 219 rfl
theorem q1276 : (Jvm.Cond.instanceMethod ({ cls := "CreditBroker", name := "isHere", desc := "(I)Z" } : Jvm.MethodName)) ∈ lw_all := lw_g (lw_at lw_m5 220 rfl) rfl
theorem q1277 : (Jvm.Cond.code ({ cls := "CreditBroker", name := "isHere", desc := "(I)Z" } : Jvm.MethodName) prog_1_method_9_code (2 : Nat) (Option.some Jvm.ClassFile.FieldType.boolean)) ∈ lw_all := lw_g (lw_at lw_m5 221 rfl) rfl
theorem q1278 : (Jvm.Cond.methodLink "CreditBroker" (55 : Nat) ({ cls := "CreditBroker", name := "isConsumer", desc := "(I)Z" } : Jvm.MethodName)) ∈ lw_all := lw_g (lw_at lw_m5 222 rfl) rfl
theorem q1279 : (Jvm.Cond.privateMethod ({ cls := "CreditBroker", name := "isConsumer", desc := "(I)Z" } : Jvm.MethodName)) ∈ lw_tbl := lw_at lw_m5 223 rfl
theorem q1280 : (Jvm.Cond.instanceMethod ({ cls := "CreditBroker", name := "isConsumer", desc := "(I)Z" } : Jvm.MethodName)) ∈ lw_all := lw_g (lw_at lw_m5 224 rfl) rfl
theorem q1281 : (Jvm.Cond.code ({ cls := "CreditBroker", name := "isConsumer", desc := "(I)Z" } : Jvm.MethodName) prog_1_method_8_code (2 : Nat) (Option.some Jvm.ClassFile.FieldType.boolean)) ∈ lw_all := lw_g (lw_at lw_m5 225 rfl) rfl
theorem q1282 : (Jvm.Cond.methodLink "CreditBroker" (252 : Nat) ({ cls := "CreditBroker$World", name := "leaves", desc := "(LCreditBroker$Consumer;)I" } : Jvm.MethodName)) ∈ lw_all := lw_g (lw_at lw_m5 226 rfl) rfl
theorem q1526 : (Jvm.Cond.instanceMethod ({ cls := "CreditBroker", name := "credit", desc := "(II)I" } : Jvm.MethodName)) ∈ lw_all := lw_g (lw_at lw_m6 230 rfl) rfl
theorem q1527 : (Jvm.Cond.selects "CreditBroker" ({ cls := "CreditBroker", name := "credit", desc := "(II)I" } : Jvm.MethodName) ({ cls := "CreditBroker", name := "credit", desc := "(II)I" } : Jvm.MethodName)) ∈ lw_all := lw_g (lw_at lw_m6 231 rfl) rfl
theorem q1528 : (Jvm.Cond.code ({ cls := "CreditBroker", name := "credit", desc := "(II)I" } : Jvm.MethodName) prog_1_method_33_code (4 : Nat) (Option.some Jvm.ClassFile.FieldType.int)) ∈ lw_all := lw_g (lw_at lw_m6 232 rfl) rfl
theorem q1530 : (Jvm.Cond.instanceMethod ({ cls := "CreditBroker", name := "publish", desc := "(III)I" } : Jvm.MethodName)) ∈ lw_all := lw_g (lw_at lw_m6 234 rfl) rfl
theorem q1531 : (Jvm.Cond.selects "CreditBroker" ({ cls := "CreditBroker", name := "publish", desc := "(III)I" } : Jvm.MethodName) ({ cls := "CreditBroker", name := "publish", desc := "(III)I" } : Jvm.MethodName)) ∈ lw_all := lw_g (lw_at lw_m6 235 rfl) rfl
theorem q1532 : (Jvm.Cond.code ({ cls := "CreditBroker", name := "publish", desc := "(III)I" } : Jvm.MethodName) prog_1_method_34_code (4 : Nat) (Option.some Jvm.ClassFile.FieldType.int)) ∈ lw_all := lw_g (lw_at lw_m6 236 rfl) rfl
theorem q1533 : (Jvm.Cond.methodLink "CreditBroker" (262 : Nat) ({ cls := "CreditBroker$World", name := "publishes", desc := "([I)I" } : Jvm.MethodName)) ∈ lw_all := lw_g (lw_at lw_m6 237 rfl) rfl
theorem q1549 : (Jvm.Cond.fieldLink "CreditBroker" (366 : Nat) "CreditBroker$Message" "number" "I") ∈ lw_all := lw_g (lw_at lw_m7 13 rfl) rfl
theorem q1552 : (Jvm.Cond.fieldLink "CreditBroker" (385 : Nat) "CreditBroker$Message" "key" "I") ∈ lw_all := lw_g (lw_at lw_m7 16 rfl) rfl
theorem q1555 : (Jvm.Cond.fieldLink "CreditBroker" (388 : Nat) "CreditBroker$Message" "priority" "I") ∈ lw_all := lw_g (lw_at lw_m7 19 rfl) rfl
theorem q1557 : (Jvm.Cond.fieldLink "CreditBroker" (391 : Nat) "CreditBroker$Message" "value" "I") ∈ lw_all := lw_g (lw_at lw_m7 21 rfl) rfl
theorem q1561 : (Jvm.Cond.fieldLink "CreditBroker" (394 : Nat) "CreditBroker$Message" "time" "I") ∈ lw_all := lw_g (lw_at lw_m7 25 rfl) rfl
theorem q1563 : (Jvm.Cond.fieldLink "CreditBroker" (398 : Nat) "CreditBroker$Message" "parts" "I") ∈ lw_all := lw_g (lw_at lw_m7 27 rfl) rfl
theorem q1624 : (Jvm.Cond.fieldLink "CreditBroker" (163 : Nat) "CreditBroker$Cause" "time" "I") ∈ lw_all := lw_g (lw_at lw_m7 88 rfl) rfl
theorem q1648 : (Jvm.Cond.fieldLink "CreditBroker" (308 : Nat) "CreditBroker$Corpse" "message" "LCreditBroker$Message;") ∈ lw_all := lw_g (lw_at lw_m7 112 rfl) rfl
theorem q1650 : (Jvm.Cond.fieldLink "CreditBroker" (297 : Nat) "CreditBroker$Corpse" "queue" "I") ∈ lw_all := lw_g (lw_at lw_m7 114 rfl) rfl
theorem q1652 : (Jvm.Cond.fieldLink "CreditBroker" (401 : Nat) "CreditBroker$Corpse" "time" "I") ∈ lw_all := lw_g (lw_at lw_m7 116 rfl) rfl
theorem q1654 : (Jvm.Cond.fieldLink "CreditBroker" (84 : Nat) "CreditBroker$Corpse" "cause" "LCreditBroker$Cause;") ∈ lw_all := lw_g (lw_at lw_m7 118 rfl) rfl
theorem q1712 : (Jvm.Cond.fieldLink "CreditBroker" (365 : Nat) "CreditBroker$Letter" "message" "LCreditBroker$Message;") ∈ lw_all := lw_g (lw_at lw_m7 176 rfl) rfl
theorem q1716 : (Jvm.Cond.fieldLink "CreditBroker" (338 : Nat) "CreditBroker$Letter" "state" "I") ∈ lw_all := lw_g (lw_at lw_m7 180 rfl) rfl
theorem q1719 : (Jvm.Cond.fieldLink "CreditBroker" (375 : Nat) "CreditBroker$Letter" "till" "I") ∈ lw_all := lw_g (lw_at lw_m7 183 rfl) rfl
theorem q1723 : (Jvm.Cond.fieldLink "CreditBroker" (371 : Nat) "CreditBroker$Letter" "failed" "I") ∈ lw_all := lw_g (lw_at lw_m7 187 rfl) rfl
theorem q1727 : (Jvm.Cond.fieldLink "CreditBroker" (372 : Nat) "CreditBroker$Letter" "consumer" "I") ∈ lw_all := lw_g (lw_at lw_m7 191 rfl) rfl
theorem q1746 : (Jvm.Cond.instanceMethod ({ cls := "CreditBroker", name := "give", desc := "(I)I" } : Jvm.MethodName)) ∈ lw_all := lw_g (lw_at lw_m7 210 rfl) rfl
theorem q1747 : (Jvm.Cond.selects "CreditBroker" ({ cls := "CreditBroker", name := "give", desc := "(I)I" } : Jvm.MethodName) ({ cls := "CreditBroker", name := "give", desc := "(I)I" } : Jvm.MethodName)) ∈ lw_all := lw_g (lw_at lw_m7 211 rfl) rfl
theorem q1748 : (Jvm.Cond.code ({ cls := "CreditBroker", name := "give", desc := "(I)I" } : Jvm.MethodName) prog_1_method_35_code (2 : Nat) (Option.some Jvm.ClassFile.FieldType.int)) ∈ lw_all := lw_g (lw_at lw_m7 212 rfl) rfl
theorem q1749 : (Jvm.Cond.methodLink "CreditBroker" (265 : Nat) ({ cls := "CreditBroker$World", name := "gives", desc := "(LCreditBroker$Queue;)I" } : Jvm.MethodName)) ∈ lw_all := lw_g (lw_at lw_m7 213 rfl) rfl
theorem q1774 : (Jvm.Cond.instanceMethod ({ cls := "CreditBroker", name := "giveAll", desc := "(I)I" } : Jvm.MethodName)) ∈ lw_all := lw_g (lw_at lw_m7 238 rfl) rfl
theorem q1775 : (Jvm.Cond.selects "CreditBroker" ({ cls := "CreditBroker", name := "giveAll", desc := "(I)I" } : Jvm.MethodName) ({ cls := "CreditBroker", name := "giveAll", desc := "(I)I" } : Jvm.MethodName)) ∈ lw_all := lw_g (lw_at lw_m7 239 rfl) rfl
theorem q1776 : (Jvm.Cond.code ({ cls := "CreditBroker", name := "giveAll", desc := "(I)I" } : Jvm.MethodName) prog_1_method_36_code (3 : Nat) (Option.some Jvm.ClassFile.FieldType.int)) ∈ lw_all := lw_g (lw_at lw_m8 0 rfl) rfl
theorem q1778 : (Jvm.Cond.instanceMethod ({ cls := "CreditBroker", name := "ack", desc := "(II)I" } : Jvm.MethodName)) ∈ lw_all := lw_g (lw_at lw_m8 2 rfl) rfl
theorem q1779 : (Jvm.Cond.selects "CreditBroker" ({ cls := "CreditBroker", name := "ack", desc := "(II)I" } : Jvm.MethodName) ({ cls := "CreditBroker", name := "ack", desc := "(II)I" } : Jvm.MethodName)) ∈ lw_all := lw_g (lw_at lw_m8 3 rfl) rfl
theorem q1780 : (Jvm.Cond.code ({ cls := "CreditBroker", name := "ack", desc := "(II)I" } : Jvm.MethodName) prog_1_method_38_code (4 : Nat) (Option.some Jvm.ClassFile.FieldType.int)) ∈ lw_all := lw_g (lw_at lw_m8 4 rfl) rfl
theorem q1781 : (Jvm.Cond.methodLink "CreditBroker" (280 : Nat) ({ cls := "CreditBroker$World", name := "held", desc := "(II)LCreditBroker$Letter;" } : Jvm.MethodName)) ∈ lw_all := lw_g (lw_at lw_m8 5 rfl) rfl
theorem q1785 : (Jvm.Cond.methodLink "CreditBroker" (283 : Nat) ({ cls := "CreditBroker$World", name := "acknowledges", desc := "(LCreditBroker$Consumer;LCreditBroker$Letter;)V" } : Jvm.MethodName)) ∈ lw_all := lw_g (lw_at lw_m8 9 rfl) rfl
theorem q1806 : (Jvm.Cond.selects "CreditBroker" ({ cls := "java/lang/Object", name := "equals", desc := "(Ljava/lang/Object;)Z" } : Jvm.MethodName) ({ cls := "java/lang/Object", name := "equals", desc := "(Ljava/lang/Object;)Z" } : Jvm.MethodName)) ∈ lw_all := lw_g (lw_at lw_m8 30 rfl) rfl
theorem q1848 : (Jvm.Cond.methodLink "CreditBroker" (287 : Nat) ({ cls := "CreditBroker", name := "manyOut", desc := "(LCreditBroker$Consumer;)I" } : Jvm.MethodName)) ∈ lw_all := lw_g (lw_at lw_m8 72 rfl) rfl
theorem q1849 : (Jvm.Cond.privateMethod ({ cls := "CreditBroker", name := "manyOut", desc := "(LCreditBroker$Consumer;)I" } : Jvm.MethodName)) ∈ lw_tbl := lw_at lw_m8 73 rfl
theorem q1850 : (Jvm.Cond.instanceMethod ({ cls := "CreditBroker", name := "manyOut", desc := "(LCreditBroker$Consumer;)I" } : Jvm.MethodName)) ∈ lw_all := lw_g (lw_at lw_m8 74 rfl) rfl
theorem q1851 : (Jvm.Cond.code ({ cls := "CreditBroker", name := "manyOut", desc := "(LCreditBroker$Consumer;)I" } : Jvm.MethodName) prog_1_method_37_code (2 : Nat) (Option.some Jvm.ClassFile.FieldType.int)) ∈ lw_all := lw_g (lw_at lw_m8 75 rfl) rfl
theorem q1852 : (Jvm.Cond.methodLink "CreditBroker" (269 : Nat) ({ cls := "CreditBroker$World", name := "queueOf", desc := "(LCreditBroker$Consumer;)LCreditBroker$Queue;" } : Jvm.MethodName)) ∈ lw_all := lw_g (lw_at lw_m8 76 rfl) rfl
theorem q1853 : (Jvm.Cond.static ({ cls := "CreditBroker", name := "lambda$manyOut$0", desc := "(LCreditBroker$Consumer;LCreditBroker$Letter;)Z" } : Jvm.MethodName)) ∈ lw_all := lw_g (lw_at lw_m8 77 rfl) rfl
theorem q1854 : (Jvm.Cond.code ({ cls := "CreditBroker", name := "lambda$manyOut$0", desc := "(LCreditBroker$Consumer;LCreditBroker$Letter;)Z" } : Jvm.MethodName) prog_1_method_77_code (2 : Nat) (Option.some Jvm.ClassFile.FieldType.boolean)) ∈ lw_all := lw_g (lw_at lw_m8 78 rfl) rfl
theorem q1855 : (Jvm.Cond.methodLink "CreditBroker" (498 : Nat) ({ cls := "CreditBroker$Letter", name := "isHeldBy", desc := "(I)Z" } : Jvm.MethodName)) ∈ lw_all := lw_g (lw_at lw_m8 79 rfl) rfl
theorem q1856 : (Jvm.Cond.methodLink "CreditBroker" (277 : Nat) ({ cls := "CreditBroker$Queue", name := "many", desc := "(LCreditBroker$Which;)I" } : Jvm.MethodName)) ∈ lw_all := lw_g (lw_at lw_m8 80 rfl) rfl
theorem q1865 : (Jvm.Cond.instanceMethod ({ cls := "CreditBroker", name := "nack", desc := "(II)I" } : Jvm.MethodName)) ∈ lw_all := lw_g (lw_at lw_m8 89 rfl) rfl
theorem q1866 : (Jvm.Cond.selects "CreditBroker" ({ cls := "CreditBroker", name := "nack", desc := "(II)I" } : Jvm.MethodName) ({ cls := "CreditBroker", name := "nack", desc := "(II)I" } : Jvm.MethodName)) ∈ lw_all := lw_g (lw_at lw_m8 90 rfl) rfl
theorem q1867 : (Jvm.Cond.code ({ cls := "CreditBroker", name := "nack", desc := "(II)I" } : Jvm.MethodName) prog_1_method_39_code (3 : Nat) (Option.some Jvm.ClassFile.FieldType.int)) ∈ lw_all := lw_g (lw_at lw_m8 91 rfl) rfl
theorem q1868 : (Jvm.Cond.methodLink "CreditBroker" (290 : Nat) ({ cls := "CreditBroker$World", name := "refuses", desc := "(LCreditBroker$Consumer;LCreditBroker$Letter;)I" } : Jvm.MethodName)) ∈ lw_all := lw_g (lw_at lw_m8 92 rfl) rfl
theorem q1885 : (Jvm.Cond.fieldLink "CreditBroker" (168 : Nat) "CreditBroker$Failure" "failed" "I") ∈ lw_all := lw_g (lw_at lw_m8 109 rfl) rfl
theorem q1903 : (Jvm.Cond.laysStatic "CreditBroker" "WAITS" "[I") ∈ lw_tbl := lw_at lw_m8 127 rfl
theorem q1905 : (Jvm.Cond.instanceMethod ({ cls := "CreditBroker", name := "pass", desc := "(I)I" } : Jvm.MethodName)) ∈ lw_all := lw_g (lw_at lw_m8 129 rfl) rfl
theorem q1906 : (Jvm.Cond.selects "CreditBroker" ({ cls := "CreditBroker", name := "pass", desc := "(I)I" } : Jvm.MethodName) ({ cls := "CreditBroker", name := "pass", desc := "(I)I" } : Jvm.MethodName)) ∈ lw_all := lw_g (lw_at lw_m8 130 rfl) rfl
theorem q1907 : (Jvm.Cond.code ({ cls := "CreditBroker", name := "pass", desc := "(I)I" } : Jvm.MethodName) prog_1_method_40_code (4 : Nat) (Option.some Jvm.ClassFile.FieldType.int)) ∈ lw_all := lw_g (lw_at lw_m8 131 rfl) rfl
theorem q1908 : (Jvm.Cond.methodLink "CreditBroker" (294 : Nat) ({ cls := "CreditBroker$World", name := "passes", desc := "()I" } : Jvm.MethodName)) ∈ lw_all := lw_g (lw_at lw_m8 132 rfl) rfl
theorem q1944 : (Jvm.Cond.instanceMethod ({ cls := "CreditBroker", name := "revive", desc := "(I)I" } : Jvm.MethodName)) ∈ lw_all := lw_g (lw_at lw_m8 168 rfl) rfl
theorem q1945 : (Jvm.Cond.selects "CreditBroker" ({ cls := "CreditBroker", name := "revive", desc := "(I)I" } : Jvm.MethodName) ({ cls := "CreditBroker", name := "revive", desc := "(I)I" } : Jvm.MethodName)) ∈ lw_all := lw_g (lw_at lw_m8 169 rfl) rfl
theorem q1946 : (Jvm.Cond.code ({ cls := "CreditBroker", name := "revive", desc := "(I)I" } : Jvm.MethodName) prog_1_method_41_code (3 : Nat) (Option.some Jvm.ClassFile.FieldType.int)) ∈ lw_all := lw_g (lw_at lw_m8 170 rfl) rfl
theorem q1947 : (Jvm.Cond.methodLink "CreditBroker" (299 : Nat) ({ cls := "CreditBroker$Queue", name := "isFull", desc := "()Z" } : Jvm.MethodName)) ∈ lw_all := lw_g (lw_at lw_m8 171 rfl) rfl
theorem q1948 : (Jvm.Cond.methodLink "CreditBroker" (303 : Nat) ({ cls := "java/util/LinkedList", name := "remove", desc := "(I)Ljava/lang/Object;" } : Jvm.MethodName)) ∈ lw_all := lw_g (lw_at lw_m8 172 rfl) rfl
theorem q1956 : (Jvm.Cond.classLink "CreditBroker" (306 : Nat) "CreditBroker$Letter") ∈ lw_all := lw_g (lw_at lw_m8 180 rfl) rfl
theorem q1957 : (Jvm.Cond.methodLink "CreditBroker" (312 : Nat) ({ cls := "CreditBroker$Letter", name := "<init>", desc := "(LCreditBroker$Message;)V" } : Jvm.MethodName)) ∈ lw_all := lw_g (lw_at lw_m8 181 rfl) rfl
theorem q1958 : (Jvm.Cond.methodLink "CreditBroker" (315 : Nat) ({ cls := "CreditBroker$Queue", name := "takes", desc := "(LCreditBroker$Letter;)V" } : Jvm.MethodName)) ∈ lw_all := lw_g (lw_at lw_m8 182 rfl) rfl
theorem q1989 : (Jvm.Cond.instanceMethod ({ cls := "CreditBroker", name := "bury", desc := "(I)I" } : Jvm.MethodName)) ∈ lw_all := lw_g (lw_at lw_m8 213 rfl) rfl
theorem q1990 : (Jvm.Cond.selects "CreditBroker" ({ cls := "CreditBroker", name := "bury", desc := "(I)I" } : Jvm.MethodName) ({ cls := "CreditBroker", name := "bury", desc := "(I)I" } : Jvm.MethodName)) ∈ lw_all := lw_g (lw_at lw_m8 214 rfl) rfl
theorem q1991 : (Jvm.Cond.code ({ cls := "CreditBroker", name := "bury", desc := "(I)I" } : Jvm.MethodName) prog_1_method_42_code (5 : Nat) (Option.some Jvm.ClassFile.FieldType.int)) ∈ lw_all := lw_g (lw_at lw_m8 215 rfl) rfl
theorem q1992 : (Jvm.Cond.methodLink "CreditBroker" (319 : Nat) ({ cls := "java/util/LinkedList", name := "iterator", desc := "()Ljava/util/Iterator;" } : Jvm.MethodName)) ∈ lw_all := lw_g (lw_at lw_m8 216 rfl) rfl
theorem q2059 : (Jvm.Cond.interfaceEntry "CreditBroker" (323 : Nat)) ∈ lw_tbl := lw_at lw_m9 43 rfl
theorem q2060 : (Jvm.Cond.methodLink "CreditBroker" (323 : Nat) ({ cls := "java/util/Iterator", name := "hasNext", desc := "()Z" } : Jvm.MethodName)) ∈ lw_all := lw_g (lw_at lw_m9 44 rfl) rfl
theorem q2061 : (Jvm.Cond.interfaceEntry "CreditBroker" (328 : Nat)) ∈ lw_tbl := lw_at lw_m9 45 rfl
theorem q2062 : (Jvm.Cond.methodLink "CreditBroker" (328 : Nat) ({ cls := "java/util/Iterator", name := "next", desc := "()Ljava/lang/Object;" } : Jvm.MethodName)) ∈ lw_all := lw_g (lw_at lw_m9 46 rfl) rfl
theorem q2063 : (Jvm.Cond.interfaceEntry "CreditBroker" (332 : Nat)) ∈ lw_tbl := lw_at lw_m9 47 rfl
theorem q2064 : (Jvm.Cond.methodLink "CreditBroker" (332 : Nat) ({ cls := "java/util/Iterator", name := "remove", desc := "()V" } : Jvm.MethodName)) ∈ lw_all := lw_g (lw_at lw_m9 48 rfl) rfl
theorem q2429 : (Jvm.Cond.instanceMethod ({ cls := "CreditBroker", name := "purge", desc := "(I)I" } : Jvm.MethodName)) ∈ lw_all := lw_g (lw_at lw_m10 173 rfl) rfl
theorem q2430 : (Jvm.Cond.selects "CreditBroker" ({ cls := "CreditBroker", name := "purge", desc := "(I)I" } : Jvm.MethodName) ({ cls := "CreditBroker", name := "purge", desc := "(I)I" } : Jvm.MethodName)) ∈ lw_all := lw_g (lw_at lw_m10 174 rfl) rfl
theorem q2431 : (Jvm.Cond.code ({ cls := "CreditBroker", name := "purge", desc := "(I)I" } : Jvm.MethodName) prog_1_method_43_code (4 : Nat) (Option.some Jvm.ClassFile.FieldType.int)) ∈ lw_all := lw_g (lw_at lw_m10 175 rfl) rfl
theorem q2432 : (Jvm.Cond.methodLink "CreditBroker" (337 : Nat) ({ cls := "java/util/ArrayList", name := "iterator", desc := "()Ljava/util/Iterator;" } : Jvm.MethodName)) ∈ lw_all := lw_g (lw_at lw_m10 176 rfl) rfl
theorem q2434 : (Jvm.Cond.instanceMethod ({ cls := "CreditBroker", name := "queueOf", desc := "(II)I" } : Jvm.MethodName)) ∈ lw_all := lw_g (lw_at lw_m10 178 rfl) rfl
theorem q2435 : (Jvm.Cond.selects "CreditBroker" ({ cls := "CreditBroker", name := "queueOf", desc := "(II)I" } : Jvm.MethodName) ({ cls := "CreditBroker", name := "queueOf", desc := "(II)I" } : Jvm.MethodName)) ∈ lw_all := lw_g (lw_at lw_m10 179 rfl) rfl
theorem q2436 : (Jvm.Cond.code ({ cls := "CreditBroker", name := "queueOf", desc := "(II)I" } : Jvm.MethodName) prog_1_method_45_code (4 : Nat) (Option.some Jvm.ClassFile.FieldType.int)) ∈ lw_all := lw_g (lw_at lw_m10 180 rfl) rfl
theorem q2437 : (Jvm.Cond.static ({ cls := "CreditBroker", name := "lambda$queueOf$1", desc := "(ILCreditBroker$Letter;)Z" } : Jvm.MethodName)) ∈ lw_all := lw_g (lw_at lw_m10 181 rfl) rfl
theorem q2438 : (Jvm.Cond.code ({ cls := "CreditBroker", name := "lambda$queueOf$1", desc := "(ILCreditBroker$Letter;)Z" } : Jvm.MethodName) prog_1_method_76_code (2 : Nat) (Option.some Jvm.ClassFile.FieldType.boolean)) ∈ lw_all := lw_g (lw_at lw_m10 182 rfl) rfl
theorem q2439 : (Jvm.Cond.methodLink "CreditBroker" (345 : Nat) ({ cls := "CreditBroker$Queue", name := "mays", desc := "()Ljava/util/PriorityQueue;" } : Jvm.MethodName)) ∈ lw_all := lw_g (lw_at lw_m10 183 rfl) rfl
theorem q2484 : (Jvm.Cond.methodLink "CreditBroker" (349 : Nat) ({ cls := "java/util/PriorityQueue", name := "size", desc := "()I" } : Jvm.MethodName)) ∈ lw_all := lw_g (lw_at lw_m10 228 rfl) rfl
theorem q2488 : (Jvm.Cond.methodLink "CreditBroker" (352 : Nat) ({ cls := "CreditBroker", name := "consumersOf", desc := "(IZ)I" } : Jvm.MethodName)) ∈ lw_all := lw_g (lw_at lw_m10 232 rfl) rfl
theorem q2489 : (Jvm.Cond.privateMethod ({ cls := "CreditBroker", name := "consumersOf", desc := "(IZ)I" } : Jvm.MethodName)) ∈ lw_tbl := lw_at lw_m10 233 rfl
theorem q2490 : (Jvm.Cond.instanceMethod ({ cls := "CreditBroker", name := "consumersOf", desc := "(IZ)I" } : Jvm.MethodName)) ∈ lw_all := lw_g (lw_at lw_m10 234 rfl) rfl
theorem q2491 : (Jvm.Cond.code ({ cls := "CreditBroker", name := "consumersOf", desc := "(IZ)I" } : Jvm.MethodName) prog_1_method_44_code (7 : Nat) (Option.some Jvm.ClassFile.FieldType.int)) ∈ lw_all := lw_g (lw_at lw_m10 235 rfl) rfl
theorem q2493 : (Jvm.Cond.instanceMethod ({ cls := "CreditBroker", name := "letter", desc := "(III)I" } : Jvm.MethodName)) ∈ lw_all := lw_g (lw_at lw_m10 237 rfl) rfl
theorem q2494 : (Jvm.Cond.selects "CreditBroker" ({ cls := "CreditBroker", name := "letter", desc := "(III)I" } : Jvm.MethodName) ({ cls := "CreditBroker", name := "letter", desc := "(III)I" } : Jvm.MethodName)) ∈ lw_all := lw_g (lw_at lw_m10 238 rfl) rfl
theorem q2495 : (Jvm.Cond.code ({ cls := "CreditBroker", name := "letter", desc := "(III)I" } : Jvm.MethodName) prog_1_method_46_code (5 : Nat) (Option.some Jvm.ClassFile.FieldType.int)) ∈ lw_all := lw_g (lw_at lw_m10 239 rfl) rfl
theorem q2497 : (Jvm.Cond.instanceMethod ({ cls := "CreditBroker", name := "consumerOf", desc := "(II)I" } : Jvm.MethodName)) ∈ lw_all := lw_g (lw_at lw_m11 1 rfl) rfl
theorem q2498 : (Jvm.Cond.selects "CreditBroker" ({ cls := "CreditBroker", name := "consumerOf", desc := "(II)I" } : Jvm.MethodName) ({ cls := "CreditBroker", name := "consumerOf", desc := "(II)I" } : Jvm.MethodName)) ∈ lw_all := lw_g (lw_at lw_m11 2 rfl) rfl
theorem q2499 : (Jvm.Cond.code ({ cls := "CreditBroker", name := "consumerOf", desc := "(II)I" } : Jvm.MethodName) prog_1_method_47_code (4 : Nat) (Option.some Jvm.ClassFile.FieldType.int)) ∈ lw_all := lw_g (lw_at lw_m11 3 rfl) rfl
theorem q2501 : (Jvm.Cond.instanceMethod ({ cls := "CreditBroker", name := "held", desc := "(II)I" } : Jvm.MethodName)) ∈ lw_all := lw_g (lw_at lw_m11 5 rfl) rfl
theorem q2502 : (Jvm.Cond.selects "CreditBroker" ({ cls := "CreditBroker", name := "held", desc := "(II)I" } : Jvm.MethodName) ({ cls := "CreditBroker", name := "held", desc := "(II)I" } : Jvm.MethodName)) ∈ lw_all := lw_g (lw_at lw_m11 6 rfl) rfl
theorem q2503 : (Jvm.Cond.code ({ cls := "CreditBroker", name := "held", desc := "(II)I" } : Jvm.MethodName) prog_1_method_48_code (4 : Nat) (Option.some Jvm.ClassFile.FieldType.int)) ∈ lw_all := lw_g (lw_at lw_m11 7 rfl) rfl
theorem q2504 : (Jvm.Cond.static ({ cls := "CreditBroker", name := "lambda$held$2", desc := "(ILCreditBroker$Letter;)Z" } : Jvm.MethodName)) ∈ lw_all := lw_g (lw_at lw_m11 8 rfl) rfl
theorem q2505 : (Jvm.Cond.code ({ cls := "CreditBroker", name := "lambda$held$2", desc := "(ILCreditBroker$Letter;)Z" } : Jvm.MethodName) prog_1_method_75_code (2 : Nat) (Option.some Jvm.ClassFile.FieldType.boolean)) ∈ lw_all := lw_g (lw_at lw_m11 9 rfl) rfl
theorem q2506 : (Jvm.Cond.methodLink "CreditBroker" (382 : Nat) ({ cls := "CreditBroker$Queue", name := "get", desc := "(ILCreditBroker$Which;)LCreditBroker$Letter;" } : Jvm.MethodName)) ∈ lw_all := lw_g (lw_at lw_m11 10 rfl) rfl
theorem q2511 : (Jvm.Cond.instanceMethod ({ cls := "CreditBroker", name := "messageOf", desc := "(II)I" } : Jvm.MethodName)) ∈ lw_all := lw_g (lw_at lw_m11 15 rfl) rfl
theorem q2512 : (Jvm.Cond.selects "CreditBroker" ({ cls := "CreditBroker", name := "messageOf", desc := "(II)I" } : Jvm.MethodName) ({ cls := "CreditBroker", name := "messageOf", desc := "(II)I" } : Jvm.MethodName)) ∈ lw_all := lw_g (lw_at lw_m11 16 rfl) rfl
theorem q2513 : (Jvm.Cond.code ({ cls := "CreditBroker", name := "messageOf", desc := "(II)I" } : Jvm.MethodName) prog_1_method_49_code (7 : Nat) (Option.some Jvm.ClassFile.FieldType.int)) ∈ lw_all := lw_g (lw_at lw_m11 17 rfl) rfl
theorem q2514 : (Jvm.Cond.classLink "CreditBroker" (367 : Nat) "CreditBroker$Message") ∈ lw_all := lw_g (lw_at lw_m11 18 rfl) rfl
theorem q2515 : (Jvm.Cond.static ({ cls := "CreditBroker", name := "lambda$messageOf$3", desc := "(LCreditBroker$Message;LCreditBroker$Letter;)Z" } : Jvm.MethodName)) ∈ lw_all := lw_g (lw_at lw_m11 19 rfl) rfl
theorem q2516 : (Jvm.Cond.code ({ cls := "CreditBroker", name := "lambda$messageOf$3", desc := "(LCreditBroker$Message;LCreditBroker$Letter;)Z" } : Jvm.MethodName) prog_1_method_74_code (2 : Nat) (Option.some Jvm.ClassFile.FieldType.boolean)) ∈ lw_all := lw_g (lw_at lw_m11 20 rfl) rfl
theorem q2518 : (Jvm.Cond.instanceMethod ({ cls := "CreditBroker", name := "dead", desc := "(II)I" } : Jvm.MethodName)) ∈ lw_all := lw_g (lw_at lw_m11 22 rfl) rfl
theorem q2519 : (Jvm.Cond.selects "CreditBroker" ({ cls := "CreditBroker", name := "dead", desc := "(II)I" } : Jvm.MethodName) ({ cls := "CreditBroker", name := "dead", desc := "(II)I" } : Jvm.MethodName)) ∈ lw_all := lw_g (lw_at lw_m11 23 rfl) rfl
theorem q2520 : (Jvm.Cond.code ({ cls := "CreditBroker", name := "dead", desc := "(II)I" } : Jvm.MethodName) prog_1_method_50_code (4 : Nat) (Option.some Jvm.ClassFile.FieldType.int)) ∈ lw_all := lw_g (lw_at lw_m11 24 rfl) rfl
theorem q2522 : (Jvm.Cond.instanceMethod ({ cls := "CreditBroker", name := "cause", desc := "(III)I" } : Jvm.MethodName)) ∈ lw_all := lw_g (lw_at lw_m11 26 rfl) rfl
theorem q2523 : (Jvm.Cond.selects "CreditBroker" ({ cls := "CreditBroker", name := "cause", desc := "(III)I" } : Jvm.MethodName) ({ cls := "CreditBroker", name := "cause", desc := "(III)I" } : Jvm.MethodName)) ∈ lw_all := lw_g (lw_at lw_m11 27 rfl) rfl
theorem q2524 : (Jvm.Cond.code ({ cls := "CreditBroker", name := "cause", desc := "(III)I" } : Jvm.MethodName) prog_1_method_51_code (5 : Nat) (Option.some Jvm.ClassFile.FieldType.int)) ∈ lw_all := lw_g (lw_at lw_m11 28 rfl) rfl
theorem q2526 : (Jvm.Cond.instanceMethod ({ cls := "CreditBroker", name := "fits", desc := "()I" } : Jvm.MethodName)) ∈ lw_all := lw_g (lw_at lw_m11 30 rfl) rfl
theorem q2527 : (Jvm.Cond.selects "CreditBroker" ({ cls := "CreditBroker", name := "fits", desc := "()I" } : Jvm.MethodName) ({ cls := "CreditBroker", name := "fits", desc := "()I" } : Jvm.MethodName)) ∈ lw_all := lw_g (lw_at lw_m11 31 rfl) rfl
theorem q2528 : (Jvm.Cond.code ({ cls := "CreditBroker", name := "fits", desc := "()I" } : Jvm.MethodName) prog_1_method_52_code (4 : Nat) (Option.some Jvm.ClassFile.FieldType.int)) ∈ lw_all := lw_g (lw_at lw_m11 32 rfl) rfl
theorem q2529 : (Jvm.Cond.methodLink "CreditBroker" (404 : Nat) ({ cls := "CreditBroker$Pattern", name := "covers", desc := "(LCreditBroker$Pattern;)Z" } : Jvm.MethodName)) ∈ lw_all := lw_g (lw_at lw_m11 33 rfl) rfl
theorem q2531 : (Jvm.Cond.instanceMethod ({ cls := "CreditBroker", name := "covers", desc := "(II)I" } : Jvm.MethodName)) ∈ lw_all := lw_g (lw_at lw_m11 35 rfl) rfl
theorem q2532 : (Jvm.Cond.selects "CreditBroker" ({ cls := "CreditBroker", name := "covers", desc := "(II)I" } : Jvm.MethodName) ({ cls := "CreditBroker", name := "covers", desc := "(II)I" } : Jvm.MethodName)) ∈ lw_all := lw_g (lw_at lw_m11 36 rfl) rfl
theorem q2533 : (Jvm.Cond.code ({ cls := "CreditBroker", name := "covers", desc := "(II)I" } : Jvm.MethodName) prog_1_method_53_code (3 : Nat) (Option.some Jvm.ClassFile.FieldType.int)) ∈ lw_all := lw_g (lw_at lw_m11 37 rfl) rfl
theorem q2535 : (Jvm.Cond.instanceMethod ({ cls := "CreditBroker", name := "pattern", desc := "(II)I" } : Jvm.MethodName)) ∈ lw_all := lw_g (lw_at lw_m11 39 rfl) rfl
theorem q2536 : (Jvm.Cond.selects "CreditBroker" ({ cls := "CreditBroker", name := "pattern", desc := "(II)I" } : Jvm.MethodName) ({ cls := "CreditBroker", name := "pattern", desc := "(II)I" } : Jvm.MethodName)) ∈ lw_all := lw_g (lw_at lw_m11 40 rfl) rfl
theorem q2537 : (Jvm.Cond.code ({ cls := "CreditBroker", name := "pattern", desc := "(II)I" } : Jvm.MethodName) prog_1_method_54_code (4 : Nat) (Option.some Jvm.ClassFile.FieldType.int)) ∈ lw_all := lw_g (lw_at lw_m11 41 rfl) rfl
theorem q2538 : (Jvm.Cond.methodLink "CreditBroker" (409 : Nat) ({ cls := "CreditBroker$Pattern", name := "text", desc := "()Ljava/lang/String;" } : Jvm.MethodName)) ∈ lw_all := lw_g (lw_at lw_m11 42 rfl) rfl
theorem q2542 : (Jvm.Cond.methodLink "CreditBroker" (413 : Nat) ({ cls := "java/lang/String", name := "length", desc := "()I" } : Jvm.MethodName)) ∈ lw_all := lw_g (lw_at lw_m11 46 rfl) rfl
theorem q2543 : (Jvm.Cond.methodLink "CreditBroker" (418 : Nat) ({ cls := "java/lang/String", name := "charAt", desc := "(I)C" } : Jvm.MethodName)) ∈ lw_all := lw_g (lw_at lw_m11 47 rfl) rfl
theorem q2559 : (Jvm.Cond.instanceMethod ({ cls := "CreditBroker", name := "next", desc := "(II)I" } : Jvm.MethodName)) ∈ lw_all := lw_g (lw_at lw_m11 63 rfl) rfl
theorem q2560 : (Jvm.Cond.selects "CreditBroker" ({ cls := "CreditBroker", name := "next", desc := "(II)I" } : Jvm.MethodName) ({ cls := "CreditBroker", name := "next", desc := "(II)I" } : Jvm.MethodName)) ∈ lw_all := lw_g (lw_at lw_m11 64 rfl) rfl
theorem q2561 : (Jvm.Cond.code ({ cls := "CreditBroker", name := "next", desc := "(II)I" } : Jvm.MethodName) prog_1_method_55_code (5 : Nat) (Option.some Jvm.ClassFile.FieldType.int)) ∈ lw_all := lw_g (lw_at lw_m11 65 rfl) rfl
theorem q2562 : (Jvm.Cond.methodLink "CreditBroker" (422 : Nat) ({ cls := "CreditBroker$Queue", name := "next", desc := "()LCreditBroker$Letter;" } : Jvm.MethodName)) ∈ lw_all := lw_g (lw_at lw_m11 66 rfl) rfl
theorem q2563 : (Jvm.Cond.methodLink "CreditBroker" (425 : Nat) ({ cls := "CreditBroker$World", name := "who", desc := "(LCreditBroker$Queue;)LCreditBroker$Consumer;" } : Jvm.MethodName)) ∈ lw_all := lw_g (lw_at lw_m11 67 rfl) rfl
theorem q2565 : (Jvm.Cond.instanceMethod ({ cls := "CreditBroker", name := "blocked", desc := "(I)I" } : Jvm.MethodName)) ∈ lw_all := lw_g (lw_at lw_m11 69 rfl) rfl
theorem q2566 : (Jvm.Cond.selects "CreditBroker" ({ cls := "CreditBroker", name := "blocked", desc := "(I)I" } : Jvm.MethodName) ({ cls := "CreditBroker", name := "blocked", desc := "(I)I" } : Jvm.MethodName)) ∈ lw_all := lw_g (lw_at lw_m11 70 rfl) rfl
theorem q2567 : (Jvm.Cond.code ({ cls := "CreditBroker", name := "blocked", desc := "(I)I" } : Jvm.MethodName) prog_1_method_56_code (6 : Nat) (Option.some Jvm.ClassFile.FieldType.int)) ∈ lw_all := lw_g (lw_at lw_m11 71 rfl) rfl
theorem q2568 : (Jvm.Cond.static ({ cls := "CreditBroker", name := "lambda$blocked$4", desc := "(LCreditBroker$Letter;)Z" } : Jvm.MethodName)) ∈ lw_all := lw_g (lw_at lw_m11 72 rfl) rfl
theorem q2569 : (Jvm.Cond.code ({ cls := "CreditBroker", name := "lambda$blocked$4", desc := "(LCreditBroker$Letter;)Z" } : Jvm.MethodName) prog_1_method_73_code (1 : Nat) (Option.some Jvm.ClassFile.FieldType.boolean)) ∈ lw_all := lw_g (lw_at lw_m11 73 rfl) rfl
theorem q2570 : (Jvm.Cond.methodLink "CreditBroker" (432 : Nat) ({ cls := "CreditBroker$Queue", name := "keys", desc := "(LCreditBroker$Which;)I" } : Jvm.MethodName)) ∈ lw_all := lw_g (lw_at lw_m11 74 rfl) rfl
theorem q2574 : (Jvm.Cond.methodLink "CreditBroker" (435 : Nat) ({ cls := "java/util/PriorityQueue", name := "iterator", desc := "()Ljava/util/Iterator;" } : Jvm.MethodName)) ∈ lw_all := lw_g (lw_at lw_m11 78 rfl) rfl
theorem q2604 : (Jvm.Cond.instanceMethod ({ cls := "CreditBroker", name := "drained", desc := "(II)I" } : Jvm.MethodName)) ∈ lw_all := lw_g (lw_at lw_m11 108 rfl) rfl
theorem q2605 : (Jvm.Cond.selects "CreditBroker" ({ cls := "CreditBroker", name := "drained", desc := "(II)I" } : Jvm.MethodName) ({ cls := "CreditBroker", name := "drained", desc := "(II)I" } : Jvm.MethodName)) ∈ lw_all := lw_g (lw_at lw_m11 109 rfl) rfl
theorem q2606 : (Jvm.Cond.code ({ cls := "CreditBroker", name := "drained", desc := "(II)I" } : Jvm.MethodName) prog_1_method_57_code (6 : Nat) (Option.some Jvm.ClassFile.FieldType.int)) ∈ lw_all := lw_g (lw_at lw_m11 110 rfl) rfl
theorem q2607 : (Jvm.Cond.methodLink "CreditBroker" (436 : Nat) ({ cls := "CreditBroker$Queue", name := "drained", desc := "()Ljava/util/ArrayDeque;" } : Jvm.MethodName)) ∈ lw_all := lw_g (lw_at lw_m11 111 rfl) rfl
theorem q2645 : (Jvm.Cond.methodLink "CreditBroker" (440 : Nat) ({ cls := "java/util/ArrayDeque", name := "iterator", desc := "()Ljava/util/Iterator;" } : Jvm.MethodName)) ∈ lw_all := lw_g (lw_at lw_m11 149 rfl) rfl
theorem q2672 : (Jvm.Cond.classLink "CreditBroker" (443 : Nat) "java/lang/Integer") ∈ lw_all := lw_g (lw_at lw_m11 176 rfl) rfl
theorem q2673 : (Jvm.Cond.methodLink "CreditBroker" (445 : Nat) ({ cls := "java/lang/Integer", name := "intValue", desc := "()I" } : Jvm.MethodName)) ∈ lw_all := lw_g (lw_at lw_m11 177 rfl) rfl
theorem q2675 : (Jvm.Cond.instanceMethod ({ cls := "CreditBroker", name := "until", desc := "(I)I" } : Jvm.MethodName)) ∈ lw_all := lw_g (lw_at lw_m11 179 rfl) rfl
theorem q2676 : (Jvm.Cond.selects "CreditBroker" ({ cls := "CreditBroker", name := "until", desc := "(I)I" } : Jvm.MethodName) ({ cls := "CreditBroker", name := "until", desc := "(I)I" } : Jvm.MethodName)) ∈ lw_all := lw_g (lw_at lw_m11 180 rfl) rfl
theorem q2677 : (Jvm.Cond.code ({ cls := "CreditBroker", name := "until", desc := "(I)I" } : Jvm.MethodName) prog_1_method_59_code (4 : Nat) (Option.some Jvm.ClassFile.FieldType.int)) ∈ lw_all := lw_g (lw_at lw_m11 181 rfl) rfl
theorem q2678 : (Jvm.Cond.methodLink "CreditBroker" (452 : Nat) ({ cls := "CreditBroker", name := "copied", desc := "()LCreditBroker$World;" } : Jvm.MethodName)) ∈ lw_all := lw_g (lw_at lw_m11 182 rfl) rfl
theorem q2679 : (Jvm.Cond.privateMethod ({ cls := "CreditBroker", name := "copied", desc := "()LCreditBroker$World;" } : Jvm.MethodName)) ∈ lw_tbl := lw_at lw_m11 183 rfl
theorem q2680 : (Jvm.Cond.instanceMethod ({ cls := "CreditBroker", name := "copied", desc := "()LCreditBroker$World;" } : Jvm.MethodName)) ∈ lw_all := lw_g (lw_at lw_m11 184 rfl) rfl
theorem q2681 : (Jvm.Cond.code ({ cls := "CreditBroker", name := "copied", desc := "()LCreditBroker$World;" } : Jvm.MethodName) prog_1_method_58_code (1 : Nat) (Option.some (Jvm.ClassFile.FieldType.object "CreditBroker$World"))) ∈ lw_all := lw_g (lw_at lw_m11 185 rfl) rfl
theorem q2682 : (Jvm.Cond.methodLink "CreditBroker" (448 : Nat) ({ cls := "CreditBroker$World", name := "becomes", desc := "(LCreditBroker$World;)LCreditBroker$World;" } : Jvm.MethodName)) ∈ lw_all := lw_g (lw_at lw_m11 186 rfl) rfl
theorem q2751 : (Jvm.Cond.instanceMethod ({ cls := "CreditBroker", name := "doomed", desc := "(I)I" } : Jvm.MethodName)) ∈ lw_all := lw_g (lw_at lw_m12 15 rfl) rfl
theorem q2752 : (Jvm.Cond.selects "CreditBroker" ({ cls := "CreditBroker", name := "doomed", desc := "(I)I" } : Jvm.MethodName) ({ cls := "CreditBroker", name := "doomed", desc := "(I)I" } : Jvm.MethodName)) ∈ lw_all := lw_g (lw_at lw_m12 16 rfl) rfl
theorem q2753 : (Jvm.Cond.code ({ cls := "CreditBroker", name := "doomed", desc := "(I)I" } : Jvm.MethodName) prog_1_method_60_code (5 : Nat) (Option.some Jvm.ClassFile.FieldType.int)) ∈ lw_all := lw_g (lw_at lw_m12 17 rfl) rfl
theorem q2755 : (Jvm.Cond.instanceMethod ({ cls := "CreditBroker", name := "judge", desc := "(III)I" } : Jvm.MethodName)) ∈ lw_all := lw_g (lw_at lw_m12 19 rfl) rfl
theorem q2756 : (Jvm.Cond.selects "CreditBroker" ({ cls := "CreditBroker", name := "judge", desc := "(III)I" } : Jvm.MethodName) ({ cls := "CreditBroker", name := "judge", desc := "(III)I" } : Jvm.MethodName)) ∈ lw_all := lw_g (lw_at lw_m12 20 rfl) rfl
theorem q2757 : (Jvm.Cond.codeWith ({ cls := "CreditBroker", name := "judge", desc := "(III)I" } : Jvm.MethodName) prog_1_method_63_code (8 : Nat) (Option.some Jvm.ClassFile.FieldType.int) [((0 : Nat), (67 : Nat), (88 : Nat), (118 : Nat)), ((68 : Nat), (87 : Nat), (88 : Nat), (118 : Nat))]) ∈ lw_all := lw_g (lw_at lw_m12 21 rfl) rfl
theorem q2758 : (Jvm.Cond.methodLink "CreditBroker" (460 : Nat) ({ cls := "CreditBroker", name := "toldIn", desc := "(ZIIII)[J" } : Jvm.MethodName)) ∈ lw_all := lw_g (lw_at lw_m12 22 rfl) rfl
theorem q2759 : (Jvm.Cond.privateMethod ({ cls := "CreditBroker", name := "toldIn", desc := "(ZIIII)[J" } : Jvm.MethodName)) ∈ lw_tbl := lw_at lw_m12 23 rfl
theorem q2760 : (Jvm.Cond.instanceMethod ({ cls := "CreditBroker", name := "toldIn", desc := "(ZIIII)[J" } : Jvm.MethodName)) ∈ lw_all := lw_g (lw_at lw_m12 24 rfl) rfl
theorem q2761 : (Jvm.Cond.code ({ cls := "CreditBroker", name := "toldIn", desc := "(ZIIII)[J" } : Jvm.MethodName) prog_1_method_62_code (6 : Nat) (Option.some (Jvm.ClassFile.FieldType.array Jvm.ClassFile.FieldType.long))) ∈ lw_all := lw_g (lw_at lw_m12 25 rfl) rfl
theorem q2762 : (Jvm.Cond.methodLink "CreditBroker" (456 : Nat) ({ cls := "CreditBroker", name := "elementsIn", desc := "(Ljava/lang/Object;I)[J" } : Jvm.MethodName)) ∈ lw_all := lw_g (lw_at lw_m12 26 rfl) rfl
theorem q2763 : (Jvm.Cond.static ({ cls := "CreditBroker", name := "elementsIn", desc := "(Ljava/lang/Object;I)[J" } : Jvm.MethodName)) ∈ lw_all := lw_g (lw_at lw_m12 27 rfl) rfl
theorem q2764 : (Jvm.Cond.codeWith ({ cls := "CreditBroker", name := "elementsIn", desc := "(Ljava/lang/Object;I)[J" } : Jvm.MethodName) prog_1_method_61_code (4 : Nat) (Option.some (Jvm.ClassFile.FieldType.array Jvm.ClassFile.FieldType.long)) [((4 : Nat), (25 : Nat), (28 : Nat), (134 : Nat))]) ∈ lw_all := lw_g (lw_at lw_m12 28 rfl) rfl
theorem q2765 : (Jvm.Cond.methodLink "CreditBroker" (464 : Nat) ({ cls := "java/util/ArrayDeque", name := "pollFirst", desc := "()Ljava/lang/Object;" } : Jvm.MethodName)) ∈ lw_all := lw_g (lw_at lw_m12 29 rfl) rfl
theorem q2766 : (Jvm.Cond.methodLink "CreditBroker" (467 : Nat) ({ cls := "java/util/ArrayDeque", name := "isEmpty", desc := "()Z" } : Jvm.MethodName)) ∈ lw_all := lw_g (lw_at lw_m12 30 rfl) rfl
theorem q2768 : (Jvm.Cond.instanceMethod ({ cls := "CreditBroker", name := "days", desc := "(I)I" } : Jvm.MethodName)) ∈ lw_all := lw_g (lw_at lw_m12 32 rfl) rfl
theorem q2769 : (Jvm.Cond.selects "CreditBroker" ({ cls := "CreditBroker", name := "days", desc := "(I)I" } : Jvm.MethodName) ({ cls := "CreditBroker", name := "days", desc := "(I)I" } : Jvm.MethodName)) ∈ lw_all := lw_g (lw_at lw_m12 33 rfl) rfl
theorem q2770 : (Jvm.Cond.code ({ cls := "CreditBroker", name := "days", desc := "(I)I" } : Jvm.MethodName) prog_1_method_64_code (4 : Nat) (Option.some Jvm.ClassFile.FieldType.int)) ∈ lw_all := lw_g (lw_at lw_m12 34 rfl) rfl
theorem q2771 : (Jvm.Cond.methodLink "CreditBroker" (470 : Nat) ({ cls := "CreditBroker$World", name := "day", desc := "()Z" } : Jvm.MethodName)) ∈ lw_all := lw_g (lw_at lw_m12 35 rfl) rfl
theorem q2801 : (Jvm.Cond.instanceMethod ({ cls := "CreditBroker", name := "seed", desc := "(I)I" } : Jvm.MethodName)) ∈ lw_all := lw_g (lw_at lw_m12 65 rfl) rfl
theorem q2802 : (Jvm.Cond.selects "CreditBroker" ({ cls := "CreditBroker", name := "seed", desc := "(I)I" } : Jvm.MethodName) ({ cls := "CreditBroker", name := "seed", desc := "(I)I" } : Jvm.MethodName)) ∈ lw_all := lw_g (lw_at lw_m12 66 rfl) rfl
theorem q2803 : (Jvm.Cond.code ({ cls := "CreditBroker", name := "seed", desc := "(I)I" } : Jvm.MethodName) prog_1_method_65_code (3 : Nat) (Option.some Jvm.ClassFile.FieldType.int)) ∈ lw_all := lw_g (lw_at lw_m12 67 rfl) rfl
theorem q2805 : (Jvm.Cond.instanceMethod ({ cls := "CreditBroker", name := "image", desc := "()I" } : Jvm.MethodName)) ∈ lw_all := lw_g (lw_at lw_m12 69 rfl) rfl
theorem q2806 : (Jvm.Cond.selects "CreditBroker" ({ cls := "CreditBroker", name := "image", desc := "()I" } : Jvm.MethodName) ({ cls := "CreditBroker", name := "image", desc := "()I" } : Jvm.MethodName)) ∈ lw_all := lw_g (lw_at lw_m12 70 rfl) rfl
theorem q2807 : (Jvm.Cond.code ({ cls := "CreditBroker", name := "image", desc := "()I" } : Jvm.MethodName) prog_1_method_66_code (1 : Nat) (Option.some Jvm.ClassFile.FieldType.int)) ∈ lw_all := lw_g (lw_at lw_m12 71 rfl) rfl
theorem q2809 : (Jvm.Cond.instanceMethod ({ cls := "CreditBroker", name := "back", desc := "()I" } : Jvm.MethodName)) ∈ lw_all := lw_g (lw_at lw_m12 73 rfl) rfl
theorem q2810 : (Jvm.Cond.selects "CreditBroker" ({ cls := "CreditBroker", name := "back", desc := "()I" } : Jvm.MethodName) ({ cls := "CreditBroker", name := "back", desc := "()I" } : Jvm.MethodName)) ∈ lw_all := lw_g (lw_at lw_m12 74 rfl) rfl
theorem q2811 : (Jvm.Cond.code ({ cls := "CreditBroker", name := "back", desc := "()I" } : Jvm.MethodName) prog_1_method_67_code (1 : Nat) (Option.some Jvm.ClassFile.FieldType.int)) ∈ lw_all := lw_g (lw_at lw_m12 75 rfl) rfl
theorem q2813 : (Jvm.Cond.instanceMethod ({ cls := "CreditBroker", name := "status", desc := "(I)I" } : Jvm.MethodName)) ∈ lw_all := lw_g (lw_at lw_m12 77 rfl) rfl
theorem q2814 : (Jvm.Cond.selects "CreditBroker" ({ cls := "CreditBroker", name := "status", desc := "(I)I" } : Jvm.MethodName) ({ cls := "CreditBroker", name := "status", desc := "(I)I" } : Jvm.MethodName)) ∈ lw_all := lw_g (lw_at lw_m12 78 rfl) rfl
theorem q2815 : (Jvm.Cond.code ({ cls := "CreditBroker", name := "status", desc := "(I)I" } : Jvm.MethodName) prog_1_method_70_code (2 : Nat) (Option.some Jvm.ClassFile.FieldType.int)) ∈ lw_all := lw_g (lw_at lw_m12 79 rfl) rfl
theorem q2816 : (Jvm.Cond.static ({ cls := "CreditBroker", name := "lambda$status$5", desc := "(LCreditBroker$Queue;)I" } : Jvm.MethodName)) ∈ lw_all := lw_g (lw_at lw_m12 80 rfl) rfl
theorem q2817 : (Jvm.Cond.code ({ cls := "CreditBroker", name := "lambda$status$5", desc := "(LCreditBroker$Queue;)I" } : Jvm.MethodName) prog_1_method_72_code (1 : Nat) (Option.some Jvm.ClassFile.FieldType.int)) ∈ lw_all := lw_g (lw_at lw_m12 81 rfl) rfl
theorem q2818 : (Jvm.Cond.methodLink "CreditBroker" (488 : Nat) ({ cls := "CreditBroker", name := "sum", desc := "(LCreditBroker$Tally;)I" } : Jvm.MethodName)) ∈ lw_all := lw_g (lw_at lw_m12 82 rfl) rfl
theorem q2819 : (Jvm.Cond.privateMethod ({ cls := "CreditBroker", name := "sum", desc := "(LCreditBroker$Tally;)I" } : Jvm.MethodName)) ∈ lw_tbl := lw_at lw_m12 83 rfl
theorem q2820 : (Jvm.Cond.instanceMethod ({ cls := "CreditBroker", name := "sum", desc := "(LCreditBroker$Tally;)I" } : Jvm.MethodName)) ∈ lw_all := lw_g (lw_at lw_m12 84 rfl) rfl
theorem q2821 : (Jvm.Cond.code ({ cls := "CreditBroker", name := "sum", desc := "(LCreditBroker$Tally;)I" } : Jvm.MethodName) prog_1_method_68_code (5 : Nat) (Option.some Jvm.ClassFile.FieldType.int)) ∈ lw_all := lw_g (lw_at lw_m12 85 rfl) rfl
theorem q2822 : (Jvm.Cond.interfaceEntry "CreditBroker" (479 : Nat)) ∈ lw_tbl := lw_at lw_m12 86 rfl
theorem q2823 : (Jvm.Cond.methodLink "CreditBroker" (479 : Nat) ({ cls := "CreditBroker$Tally", name := "of", desc := "(LCreditBroker$Queue;)I" } : Jvm.MethodName)) ∈ lw_all := lw_g (lw_at lw_m12 87 rfl) rfl
theorem q2826 : (Jvm.Cond.privateMethod ({ cls := "CreditBroker", name := "lambda$status$6", desc := "(LCreditBroker$Queue;)I" } : Jvm.MethodName)) ∈ lw_tbl := lw_at lw_m12 90 rfl
theorem q2827 : (Jvm.Cond.instanceMethod ({ cls := "CreditBroker", name := "lambda$status$6", desc := "(LCreditBroker$Queue;)I" } : Jvm.MethodName)) ∈ lw_all := lw_g (lw_at lw_m12 91 rfl) rfl
theorem q2828 : (Jvm.Cond.code ({ cls := "CreditBroker", name := "lambda$status$6", desc := "(LCreditBroker$Queue;)I" } : Jvm.MethodName) prog_1_method_71_code (2 : Nat) (Option.some Jvm.ClassFile.FieldType.int)) ∈ lw_all := lw_g (lw_at lw_m12 92 rfl) rfl
theorem q2829 : (Jvm.Cond.methodLink "CreditBroker" (495 : Nat) ({ cls := "CreditBroker", name := "shelved", desc := "()I" } : Jvm.MethodName)) ∈ lw_all := lw_g (lw_at lw_m12 93 rfl) rfl
theorem q2830 : (Jvm.Cond.privateMethod ({ cls := "CreditBroker", name := "shelved", desc := "()I" } : Jvm.MethodName)) ∈ lw_tbl := lw_at lw_m12 94 rfl
theorem q2831 : (Jvm.Cond.instanceMethod ({ cls := "CreditBroker", name := "shelved", desc := "()I" } : Jvm.MethodName)) ∈ lw_all := lw_g (lw_at lw_m12 95 rfl) rfl
theorem q2832 : (Jvm.Cond.code ({ cls := "CreditBroker", name := "shelved", desc := "()I" } : Jvm.MethodName) prog_1_method_69_code (3 : Nat) (Option.some Jvm.ClassFile.FieldType.int)) ∈ lw_all := lw_g (lw_at lw_m12 96 rfl) rfl
theorem q3312 : (Jvm.Cond.castable "CreditBroker" "java/lang/Object") ∈ lw_tbl := lw_at lw_m14 96 rfl
theorem in_X0 : ∀ w ∈ wsX00, w ∈ lw_all := lw_in wsX00 [281, 283, 285, 287, 289, 291, 293] (by decide +kernel) (by decide +kernel)
/-! CreditBroker$World -/
def RX1 : String := "CreditBroker$World"
def TX1 : u_T := fun k => match k with
  | 0 => ("CreditBroker$World", "queues", "Ljava/util/ArrayList;", true)
  | 1 => ("CreditBroker$World", "consumers", "Ljava/util/ArrayList;", true)
  | 2 => ("CreditBroker$World", "messages", "Ljava/util/ArrayList;", true)
  | 3 => ("CreditBroker$World", "dead", "Ljava/util/LinkedList;", true)
  | 4 => ("CreditBroker$World", "topic", "LCreditBroker$Pattern;", false)
  | 5 => ("CreditBroker$World", "time", "I", false)
  | _ => ("CreditBroker$World", "seed", "I", false)
def tyX1 : Nat → FieldType := fun k => match k with
  | 0 => .object "java/util/ArrayList"
  | 1 => .object "java/util/ArrayList"
  | 2 => .object "java/util/ArrayList"
  | 3 => .object "java/util/LinkedList"
  | 4 => .object "CreditBroker$Pattern"
  | 5 => .int
  | _ => .int
abbrev wsX10 : List Cond := u_ws RX1 TX1 7
theorem nmX1 : ∀ a, a < 7 → ∀ b, b < 7 → a ≠ b → (TX1 a).2.1 ≠ (TX1 b).2.1 := by decide +kernel
theorem tyX1_ok : ∀ k, k < 7 → parseFieldDescriptor (TX1 k).2.2.1 = some (tyX1 k) := by decide +kernel
abbrev cX1_init : ByteArray := prog_22_method_1_code
def yX1_init : MethodName := ⟨RX1, "<init>", "()V"⟩
def dkwX1_init_2 : List UInt8 := [181, 0, 27, 42, 4, 181, 0, 31, 177]
abbrev dktX1_init_2 : List UInt8 := dkwX1_init_2 ++ []
def dkwX1_init_1 : List UInt8 := [181, 0, 18, 42, 187, 0, 9, 89, 183, 0, 11, 181, 0, 21, 42, 187, 0, 24, 89, 183, 0, 26]
abbrev dktX1_init_1 : List UInt8 := dkwX1_init_1 ++ dktX1_init_2
def dkwX1_init_0 : List UInt8 := [42, 183, 0, 3, 42, 187, 0, 9, 89, 183, 0, 11, 181, 0, 12, 42, 187, 0, 9, 89, 183, 0, 11]
abbrev dktX1_init_0 : List UInt8 := dkwX1_init_0 ++ dktX1_init_1
theorem dksX1_init_0 : cX1_init.data.toList.drop 0 = dktX1_init_0 := by decide +kernel
theorem dksX1_init_1 : cX1_init.data.toList.drop 23 = dktX1_init_1 := dk_seg dksX1_init_0 23 rfl rfl
theorem dksX1_init_2 : cX1_init.data.toList.drop 45 = dktX1_init_2 := dk_seg dksX1_init_1 22 rfl rfl
theorem dX1_init_0 : decode cX1_init 0 = .ok (.aload_n 0, 1) := dk_42 (dk_at dksX1_init_0 0 rfl rfl)
theorem dX1_init_1 : decode cX1_init 1 = .ok (.invokespecial 3, 3) := dk_183 0 3 (dk_at dksX1_init_0 1 rfl rfl)
theorem dX1_init_4 : decode cX1_init 4 = .ok (.aload_n 0, 1) := dk_42 (dk_at dksX1_init_0 4 rfl rfl)
theorem dX1_init_5 : decode cX1_init 5 = .ok (.new 9, 3) := dk_187 0 9 (dk_at dksX1_init_0 5 rfl rfl)
theorem dX1_init_8 : decode cX1_init 8 = .ok (.dup, 1) := dk_89 (dk_at dksX1_init_0 8 rfl rfl)
theorem dX1_init_9 : decode cX1_init 9 = .ok (.invokespecial 11, 3) := dk_183 0 11 (dk_at dksX1_init_0 9 rfl rfl)
theorem dX1_init_12 : decode cX1_init 12 = .ok (.putfield 12, 3) := dk_181 0 12 (dk_at dksX1_init_0 12 rfl rfl)
theorem dX1_init_15 : decode cX1_init 15 = .ok (.aload_n 0, 1) := dk_42 (dk_at dksX1_init_0 15 rfl rfl)
theorem dX1_init_16 : decode cX1_init 16 = .ok (.new 9, 3) := dk_187 0 9 (dk_at dksX1_init_0 16 rfl rfl)
theorem dX1_init_19 : decode cX1_init 19 = .ok (.dup, 1) := dk_89 (dk_at dksX1_init_0 19 rfl rfl)
theorem dX1_init_20 : decode cX1_init 20 = .ok (.invokespecial 11, 3) := dk_183 0 11 (dk_at dksX1_init_0 20 rfl rfl)
theorem dX1_init_23 : decode cX1_init 23 = .ok (.putfield 18, 3) := dk_181 0 18 (dk_at dksX1_init_1 0 rfl rfl)
theorem dX1_init_26 : decode cX1_init 26 = .ok (.aload_n 0, 1) := dk_42 (dk_at dksX1_init_1 3 rfl rfl)
theorem dX1_init_27 : decode cX1_init 27 = .ok (.new 9, 3) := dk_187 0 9 (dk_at dksX1_init_1 4 rfl rfl)
theorem dX1_init_30 : decode cX1_init 30 = .ok (.dup, 1) := dk_89 (dk_at dksX1_init_1 7 rfl rfl)
theorem dX1_init_31 : decode cX1_init 31 = .ok (.invokespecial 11, 3) := dk_183 0 11 (dk_at dksX1_init_1 8 rfl rfl)
theorem dX1_init_34 : decode cX1_init 34 = .ok (.putfield 21, 3) := dk_181 0 21 (dk_at dksX1_init_1 11 rfl rfl)
theorem dX1_init_37 : decode cX1_init 37 = .ok (.aload_n 0, 1) := dk_42 (dk_at dksX1_init_1 14 rfl rfl)
theorem dX1_init_38 : decode cX1_init 38 = .ok (.new 24, 3) := dk_187 0 24 (dk_at dksX1_init_1 15 rfl rfl)
theorem dX1_init_41 : decode cX1_init 41 = .ok (.dup, 1) := dk_89 (dk_at dksX1_init_1 18 rfl rfl)
theorem dX1_init_42 : decode cX1_init 42 = .ok (.invokespecial 26, 3) := dk_183 0 26 (dk_at dksX1_init_1 19 rfl rfl)
theorem dX1_init_45 : decode cX1_init 45 = .ok (.putfield 27, 3) := dk_181 0 27 (dk_at dksX1_init_2 0 rfl rfl)
theorem dX1_init_48 : decode cX1_init 48 = .ok (.aload_n 0, 1) := dk_42 (dk_at dksX1_init_2 3 rfl rfl)
theorem dX1_init_49 : decode cX1_init 49 = .ok (.iconst 1, 1) := dk_4 (dk_at dksX1_init_2 4 rfl rfl)
theorem dX1_init_50 : decode cX1_init 50 = .ok (.putfield 31, 3) := dk_181 0 31 (dk_at dksX1_init_2 5 rfl rfl)
theorem dX1_init_53 : decode cX1_init 53 = .ok (.return_, 1) := dk_177 (dk_at dksX1_init_2 8 rfl rfl)
abbrev cX1_leaves : ByteArray := prog_22_method_14_code
def yX1_leaves : MethodName := ⟨RX1, "leaves", "(LCreditBroker$Consumer;)I"⟩
def dkwX1_leaves_2 : List UInt8 := [182, 0, 239, 132, 2, 1, 167, 255, 216, 43, 4, 181, 0, 161, 43, 3, 181, 0, 172, 28, 172]
abbrev dktX1_leaves_2 : List UInt8 := dkwX1_leaves_2 ++ []
def dkwX1_leaves_1 : List UInt8 := [185, 0, 49, 1, 0, 192, 0, 93, 58, 4, 25, 4, 43, 180, 0, 175, 182, 0, 104, 153, 0, 11, 25, 4]
abbrev dktX1_leaves_1 : List UInt8 := dkwX1_leaves_1 ++ dktX1_leaves_2
def dkwX1_leaves_0 : List UInt8 := [3, 61, 42, 43, 182, 0, 206, 180, 0, 86, 182, 0, 39, 78, 45, 185, 0, 43, 1, 0, 153, 0, 37, 45]
abbrev dktX1_leaves_0 : List UInt8 := dkwX1_leaves_0 ++ dktX1_leaves_1
theorem dksX1_leaves_0 : cX1_leaves.data.toList.drop 0 = dktX1_leaves_0 := by decide +kernel
theorem dksX1_leaves_1 : cX1_leaves.data.toList.drop 24 = dktX1_leaves_1 := dk_seg dksX1_leaves_0 24 rfl rfl
theorem dksX1_leaves_2 : cX1_leaves.data.toList.drop 48 = dktX1_leaves_2 := dk_seg dksX1_leaves_1 24 rfl rfl
theorem dX1_leaves_0 : decode cX1_leaves 0 = .ok (.iconst 0, 1) := dk_3 (dk_at dksX1_leaves_0 0 rfl rfl)
theorem dX1_leaves_1 : decode cX1_leaves 1 = .ok (.istore_n 2, 1) := dk_61 (dk_at dksX1_leaves_0 1 rfl rfl)
theorem dX1_leaves_2 : decode cX1_leaves 2 = .ok (.aload_n 0, 1) := dk_42 (dk_at dksX1_leaves_0 2 rfl rfl)
theorem dX1_leaves_3 : decode cX1_leaves 3 = .ok (.aload_n 1, 1) := dk_43 (dk_at dksX1_leaves_0 3 rfl rfl)
theorem dX1_leaves_4 : decode cX1_leaves 4 = .ok (.invokevirtual 206, 3) := dk_182 0 206 (dk_at dksX1_leaves_0 4 rfl rfl)
theorem dX1_leaves_7 : decode cX1_leaves 7 = .ok (.getfield 86, 3) := dk_180 0 86 (dk_at dksX1_leaves_0 7 rfl rfl)
theorem dX1_leaves_10 : decode cX1_leaves 10 = .ok (.invokevirtual 39, 3) := dk_182 0 39 (dk_at dksX1_leaves_0 10 rfl rfl)
theorem dX1_leaves_13 : decode cX1_leaves 13 = .ok (.astore_n 3, 1) := dk_78 (dk_at dksX1_leaves_0 13 rfl rfl)
theorem dX1_leaves_14 : decode cX1_leaves 14 = .ok (.aload_n 3, 1) := dk_45 (dk_at dksX1_leaves_0 14 rfl rfl)
theorem dX1_leaves_15 : decode cX1_leaves 15 = .ok (.invokeinterface 43 1, 5) := by decide +kernel
theorem dX1_leaves_20 : decode cX1_leaves 20 = .ok (.ifCond .eq 37, 3) := dk_153 0 37 (dk_at dksX1_leaves_0 20 rfl rfl)
theorem dX1_leaves_23 : decode cX1_leaves 23 = .ok (.aload_n 3, 1) := dk_45 (dk_at dksX1_leaves_0 23 rfl rfl)
theorem dX1_leaves_24 : decode cX1_leaves 24 = .ok (.invokeinterface 49 1, 5) := by decide +kernel
theorem dX1_leaves_29 : decode cX1_leaves 29 = .ok (.checkcast 93, 3) := dk_192 0 93 (dk_at dksX1_leaves_1 5 rfl rfl)
theorem dX1_leaves_32 : decode cX1_leaves 32 = .ok (.astore 4, 2) := dk_58 4 (dk_at dksX1_leaves_1 8 rfl rfl)
theorem dX1_leaves_34 : decode cX1_leaves 34 = .ok (.aload 4, 2) := dk_25 4 (dk_at dksX1_leaves_1 10 rfl rfl)
theorem dX1_leaves_36 : decode cX1_leaves 36 = .ok (.aload_n 1, 1) := dk_43 (dk_at dksX1_leaves_1 12 rfl rfl)
theorem dX1_leaves_37 : decode cX1_leaves 37 = .ok (.getfield 175, 3) := dk_180 0 175 (dk_at dksX1_leaves_1 13 rfl rfl)
theorem dX1_leaves_40 : decode cX1_leaves 40 = .ok (.invokevirtual 104, 3) := dk_182 0 104 (dk_at dksX1_leaves_1 16 rfl rfl)
theorem dX1_leaves_43 : decode cX1_leaves 43 = .ok (.ifCond .eq 11, 3) := dk_153 0 11 (dk_at dksX1_leaves_1 19 rfl rfl)
theorem dX1_leaves_46 : decode cX1_leaves 46 = .ok (.aload 4, 2) := dk_25 4 (dk_at dksX1_leaves_1 22 rfl rfl)
theorem dX1_leaves_48 : decode cX1_leaves 48 = .ok (.invokevirtual 239, 3) := dk_182 0 239 (dk_at dksX1_leaves_2 0 rfl rfl)
theorem dX1_leaves_51 : decode cX1_leaves 51 = .ok (.iinc 2 1, 3) := dk_132 2 1 (dk_at dksX1_leaves_2 3 rfl rfl)
theorem dX1_leaves_54 : decode cX1_leaves 54 = .ok (.goto (-40), 3) := dk_167 255 216 (dk_at dksX1_leaves_2 6 rfl rfl)
theorem dX1_leaves_57 : decode cX1_leaves 57 = .ok (.aload_n 1, 1) := dk_43 (dk_at dksX1_leaves_2 9 rfl rfl)
theorem dX1_leaves_58 : decode cX1_leaves 58 = .ok (.iconst 1, 1) := dk_4 (dk_at dksX1_leaves_2 10 rfl rfl)
theorem dX1_leaves_59 : decode cX1_leaves 59 = .ok (.putfield 161, 3) := dk_181 0 161 (dk_at dksX1_leaves_2 11 rfl rfl)
theorem dX1_leaves_62 : decode cX1_leaves 62 = .ok (.aload_n 1, 1) := dk_43 (dk_at dksX1_leaves_2 14 rfl rfl)
theorem dX1_leaves_63 : decode cX1_leaves 63 = .ok (.iconst 0, 1) := dk_3 (dk_at dksX1_leaves_2 15 rfl rfl)
theorem dX1_leaves_64 : decode cX1_leaves 64 = .ok (.putfield 172, 3) := dk_181 0 172 (dk_at dksX1_leaves_2 16 rfl rfl)
theorem dX1_leaves_67 : decode cX1_leaves 67 = .ok (.iload_n 2, 1) := dk_28 (dk_at dksX1_leaves_2 19 rfl rfl)
theorem dX1_leaves_68 : decode cX1_leaves 68 = .ok (.ireturn, 1) := dk_172 (dk_at dksX1_leaves_2 20 rfl rfl)
abbrev cX1_queueOf : ByteArray := prog_22_method_10_code
def yX1_queueOf : MethodName := ⟨RX1, "queueOf", "(LCreditBroker$Consumer;)LCreditBroker$Queue;"⟩
def dkwX1_queueOf_0 : List UInt8 := [42, 180, 0, 12, 43, 180, 0, 83, 182, 0, 79, 192, 0, 53, 176]
abbrev dktX1_queueOf_0 : List UInt8 := dkwX1_queueOf_0 ++ []
theorem dksX1_queueOf_0 : cX1_queueOf.data.toList.drop 0 = dktX1_queueOf_0 := by decide +kernel
theorem dX1_queueOf_0 : decode cX1_queueOf 0 = .ok (.aload_n 0, 1) := dk_42 (dk_at dksX1_queueOf_0 0 rfl rfl)
theorem dX1_queueOf_1 : decode cX1_queueOf 1 = .ok (.getfield 12, 3) := dk_180 0 12 (dk_at dksX1_queueOf_0 1 rfl rfl)
theorem dX1_queueOf_4 : decode cX1_queueOf 4 = .ok (.aload_n 1, 1) := dk_43 (dk_at dksX1_queueOf_0 4 rfl rfl)
theorem dX1_queueOf_5 : decode cX1_queueOf 5 = .ok (.getfield 83, 3) := dk_180 0 83 (dk_at dksX1_queueOf_0 5 rfl rfl)
theorem dX1_queueOf_8 : decode cX1_queueOf 8 = .ok (.invokevirtual 79, 3) := dk_182 0 79 (dk_at dksX1_queueOf_0 8 rfl rfl)
theorem dX1_queueOf_11 : decode cX1_queueOf 11 = .ok (.checkcast 53, 3) := dk_192 0 53 (dk_at dksX1_queueOf_0 11 rfl rfl)
theorem dX1_queueOf_14 : decode cX1_queueOf 14 = .ok (.areturn, 1) := dk_176 (dk_at dksX1_queueOf_0 14 rfl rfl)
abbrev cX1_publishes : ByteArray := prog_22_method_6_code
def yX1_publishes : MethodName := ⟨RX1, "publishes", "([I)I"⟩
def dkwX1_publishes_6 : List UInt8 := [132, 4, 1, 167, 255, 155, 29, 172]
abbrev dktX1_publishes_6 : List UInt8 := dkwX1_publishes_6 ++ []
def dkwX1_publishes_5 : List UInt8 := [182, 0, 154, 167, 0, 20, 25, 5, 180, 0, 86, 187, 0, 93, 89, 44, 183, 0, 158, 182, 0, 58, 87]
abbrev dktX1_publishes_5 : List UInt8 := dkwX1_publishes_5 ++ dktX1_publishes_6
def dkwX1_publishes_4 : List UInt8 := [153, 0, 29, 42, 25, 5, 44, 187, 0, 146, 89, 42, 180, 0, 76, 25, 5, 180, 0, 148, 183, 0, 151]
abbrev dktX1_publishes_4 : List UInt8 := dkwX1_publishes_4 ++ dktX1_publishes_5
def dkwX1_publishes_3 : List UInt8 := [180, 0, 136, 42, 180, 0, 72, 182, 0, 139, 154, 0, 6, 167, 0, 57, 132, 3, 1, 25, 5, 182, 0, 143]
abbrev dktX1_publishes_3 : List UInt8 := dkwX1_publishes_3 ++ dktX1_publishes_4
def dkwX1_publishes_2 : List UInt8 := [182, 0, 89, 162, 0, 95, 42, 180, 0, 12, 21, 4, 182, 0, 79, 192, 0, 53, 58, 5, 25, 5]
abbrev dktX1_publishes_2 : List UInt8 := dkwX1_publishes_2 ++ dktX1_publishes_3
def dkwX1_publishes_1 : List UInt8 := [183, 0, 133, 77, 42, 180, 0, 21, 44, 182, 0, 58, 87, 3, 62, 3, 54, 4, 21, 4, 42, 180, 0, 12]
abbrev dktX1_publishes_1 : List UInt8 := dkwX1_publishes_1 ++ dktX1_publishes_2
def dkwX1_publishes_0 : List UInt8 := [187, 0, 100, 89, 42, 180, 0, 21, 182, 0, 89, 42, 180, 0, 76, 42, 180, 0, 72, 182, 0, 128, 43]
abbrev dktX1_publishes_0 : List UInt8 := dkwX1_publishes_0 ++ dktX1_publishes_1
theorem dksX1_publishes_0 : cX1_publishes.data.toList.drop 0 = dktX1_publishes_0 := by decide +kernel
theorem dksX1_publishes_1 : cX1_publishes.data.toList.drop 23 = dktX1_publishes_1 := dk_seg dksX1_publishes_0 23 rfl rfl
theorem dksX1_publishes_2 : cX1_publishes.data.toList.drop 47 = dktX1_publishes_2 := dk_seg dksX1_publishes_1 24 rfl rfl
theorem dksX1_publishes_3 : cX1_publishes.data.toList.drop 69 = dktX1_publishes_3 := dk_seg dksX1_publishes_2 22 rfl rfl
theorem dksX1_publishes_4 : cX1_publishes.data.toList.drop 93 = dktX1_publishes_4 := dk_seg dksX1_publishes_3 24 rfl rfl
theorem dksX1_publishes_5 : cX1_publishes.data.toList.drop 116 = dktX1_publishes_5 := dk_seg dksX1_publishes_4 23 rfl rfl
theorem dksX1_publishes_6 : cX1_publishes.data.toList.drop 139 = dktX1_publishes_6 := dk_seg dksX1_publishes_5 23 rfl rfl
theorem dX1_publishes_0 : decode cX1_publishes 0 = .ok (.new 100, 3) := dk_187 0 100 (dk_at dksX1_publishes_0 0 rfl rfl)
theorem dX1_publishes_3 : decode cX1_publishes 3 = .ok (.dup, 1) := dk_89 (dk_at dksX1_publishes_0 3 rfl rfl)
theorem dX1_publishes_4 : decode cX1_publishes 4 = .ok (.aload_n 0, 1) := dk_42 (dk_at dksX1_publishes_0 4 rfl rfl)
theorem dX1_publishes_5 : decode cX1_publishes 5 = .ok (.getfield 21, 3) := dk_180 0 21 (dk_at dksX1_publishes_0 5 rfl rfl)
theorem dX1_publishes_8 : decode cX1_publishes 8 = .ok (.invokevirtual 89, 3) := dk_182 0 89 (dk_at dksX1_publishes_0 8 rfl rfl)
theorem dX1_publishes_11 : decode cX1_publishes 11 = .ok (.aload_n 0, 1) := dk_42 (dk_at dksX1_publishes_0 11 rfl rfl)
theorem dX1_publishes_12 : decode cX1_publishes 12 = .ok (.getfield 76, 3) := dk_180 0 76 (dk_at dksX1_publishes_0 12 rfl rfl)
theorem dX1_publishes_15 : decode cX1_publishes 15 = .ok (.aload_n 0, 1) := dk_42 (dk_at dksX1_publishes_0 15 rfl rfl)
theorem dX1_publishes_16 : decode cX1_publishes 16 = .ok (.getfield 72, 3) := dk_180 0 72 (dk_at dksX1_publishes_0 16 rfl rfl)
theorem dX1_publishes_19 : decode cX1_publishes 19 = .ok (.invokevirtual 128, 3) := dk_182 0 128 (dk_at dksX1_publishes_0 19 rfl rfl)
theorem dX1_publishes_22 : decode cX1_publishes 22 = .ok (.aload_n 1, 1) := dk_43 (dk_at dksX1_publishes_0 22 rfl rfl)
theorem dX1_publishes_23 : decode cX1_publishes 23 = .ok (.invokespecial 133, 3) := dk_183 0 133 (dk_at dksX1_publishes_1 0 rfl rfl)
theorem dX1_publishes_26 : decode cX1_publishes 26 = .ok (.astore_n 2, 1) := dk_77 (dk_at dksX1_publishes_1 3 rfl rfl)
theorem dX1_publishes_27 : decode cX1_publishes 27 = .ok (.aload_n 0, 1) := dk_42 (dk_at dksX1_publishes_1 4 rfl rfl)
theorem dX1_publishes_28 : decode cX1_publishes 28 = .ok (.getfield 21, 3) := dk_180 0 21 (dk_at dksX1_publishes_1 5 rfl rfl)
theorem dX1_publishes_31 : decode cX1_publishes 31 = .ok (.aload_n 2, 1) := dk_44 (dk_at dksX1_publishes_1 8 rfl rfl)
theorem dX1_publishes_32 : decode cX1_publishes 32 = .ok (.invokevirtual 58, 3) := dk_182 0 58 (dk_at dksX1_publishes_1 9 rfl rfl)
theorem dX1_publishes_35 : decode cX1_publishes 35 = .ok (.pop, 1) := dk_87 (dk_at dksX1_publishes_1 12 rfl rfl)
theorem dX1_publishes_36 : decode cX1_publishes 36 = .ok (.iconst 0, 1) := dk_3 (dk_at dksX1_publishes_1 13 rfl rfl)
theorem dX1_publishes_37 : decode cX1_publishes 37 = .ok (.istore_n 3, 1) := dk_62 (dk_at dksX1_publishes_1 14 rfl rfl)
theorem dX1_publishes_38 : decode cX1_publishes 38 = .ok (.iconst 0, 1) := dk_3 (dk_at dksX1_publishes_1 15 rfl rfl)
theorem dX1_publishes_39 : decode cX1_publishes 39 = .ok (.istore 4, 2) := dk_54 4 (dk_at dksX1_publishes_1 16 rfl rfl)
theorem dX1_publishes_41 : decode cX1_publishes 41 = .ok (.iload 4, 2) := dk_21 4 (dk_at dksX1_publishes_1 18 rfl rfl)
theorem dX1_publishes_43 : decode cX1_publishes 43 = .ok (.aload_n 0, 1) := dk_42 (dk_at dksX1_publishes_1 20 rfl rfl)
theorem dX1_publishes_44 : decode cX1_publishes 44 = .ok (.getfield 12, 3) := dk_180 0 12 (dk_at dksX1_publishes_1 21 rfl rfl)
theorem dX1_publishes_47 : decode cX1_publishes 47 = .ok (.invokevirtual 89, 3) := dk_182 0 89 (dk_at dksX1_publishes_2 0 rfl rfl)
theorem dX1_publishes_50 : decode cX1_publishes 50 = .ok (.if_icmp .ge 95, 3) := dk_162 0 95 (dk_at dksX1_publishes_2 3 rfl rfl)
theorem dX1_publishes_53 : decode cX1_publishes 53 = .ok (.aload_n 0, 1) := dk_42 (dk_at dksX1_publishes_2 6 rfl rfl)
theorem dX1_publishes_54 : decode cX1_publishes 54 = .ok (.getfield 12, 3) := dk_180 0 12 (dk_at dksX1_publishes_2 7 rfl rfl)
theorem dX1_publishes_57 : decode cX1_publishes 57 = .ok (.iload 4, 2) := dk_21 4 (dk_at dksX1_publishes_2 10 rfl rfl)
theorem dX1_publishes_59 : decode cX1_publishes 59 = .ok (.invokevirtual 79, 3) := dk_182 0 79 (dk_at dksX1_publishes_2 12 rfl rfl)
theorem dX1_publishes_62 : decode cX1_publishes 62 = .ok (.checkcast 53, 3) := dk_192 0 53 (dk_at dksX1_publishes_2 15 rfl rfl)
theorem dX1_publishes_65 : decode cX1_publishes 65 = .ok (.astore 5, 2) := dk_58 5 (dk_at dksX1_publishes_2 18 rfl rfl)
theorem dX1_publishes_67 : decode cX1_publishes 67 = .ok (.aload 5, 2) := dk_25 5 (dk_at dksX1_publishes_2 20 rfl rfl)
theorem dX1_publishes_69 : decode cX1_publishes 69 = .ok (.getfield 136, 3) := dk_180 0 136 (dk_at dksX1_publishes_3 0 rfl rfl)
theorem dX1_publishes_72 : decode cX1_publishes 72 = .ok (.aload_n 0, 1) := dk_42 (dk_at dksX1_publishes_3 3 rfl rfl)
theorem dX1_publishes_73 : decode cX1_publishes 73 = .ok (.getfield 72, 3) := dk_180 0 72 (dk_at dksX1_publishes_3 4 rfl rfl)
theorem dX1_publishes_76 : decode cX1_publishes 76 = .ok (.invokevirtual 139, 3) := dk_182 0 139 (dk_at dksX1_publishes_3 7 rfl rfl)
theorem dX1_publishes_79 : decode cX1_publishes 79 = .ok (.ifCond .ne 6, 3) := dk_154 0 6 (dk_at dksX1_publishes_3 10 rfl rfl)
theorem dX1_publishes_82 : decode cX1_publishes 82 = .ok (.goto 57, 3) := dk_167 0 57 (dk_at dksX1_publishes_3 13 rfl rfl)
theorem dX1_publishes_85 : decode cX1_publishes 85 = .ok (.iinc 3 1, 3) := dk_132 3 1 (dk_at dksX1_publishes_3 16 rfl rfl)
theorem dX1_publishes_88 : decode cX1_publishes 88 = .ok (.aload 5, 2) := dk_25 5 (dk_at dksX1_publishes_3 19 rfl rfl)
theorem dX1_publishes_90 : decode cX1_publishes 90 = .ok (.invokevirtual 143, 3) := dk_182 0 143 (dk_at dksX1_publishes_3 21 rfl rfl)
theorem dX1_publishes_93 : decode cX1_publishes 93 = .ok (.ifCond .eq 29, 3) := dk_153 0 29 (dk_at dksX1_publishes_4 0 rfl rfl)
theorem dX1_publishes_96 : decode cX1_publishes 96 = .ok (.aload_n 0, 1) := dk_42 (dk_at dksX1_publishes_4 3 rfl rfl)
theorem dX1_publishes_97 : decode cX1_publishes 97 = .ok (.aload 5, 2) := dk_25 5 (dk_at dksX1_publishes_4 4 rfl rfl)
theorem dX1_publishes_99 : decode cX1_publishes 99 = .ok (.aload_n 2, 1) := dk_44 (dk_at dksX1_publishes_4 6 rfl rfl)
theorem dX1_publishes_100 : decode cX1_publishes 100 = .ok (.new 146, 3) := dk_187 0 146 (dk_at dksX1_publishes_4 7 rfl rfl)
theorem dX1_publishes_103 : decode cX1_publishes 103 = .ok (.dup, 1) := dk_89 (dk_at dksX1_publishes_4 10 rfl rfl)
theorem dX1_publishes_104 : decode cX1_publishes 104 = .ok (.aload_n 0, 1) := dk_42 (dk_at dksX1_publishes_4 11 rfl rfl)
theorem dX1_publishes_105 : decode cX1_publishes 105 = .ok (.getfield 76, 3) := dk_180 0 76 (dk_at dksX1_publishes_4 12 rfl rfl)
theorem dX1_publishes_108 : decode cX1_publishes 108 = .ok (.aload 5, 2) := dk_25 5 (dk_at dksX1_publishes_4 15 rfl rfl)
theorem dX1_publishes_110 : decode cX1_publishes 110 = .ok (.getfield 148, 3) := dk_180 0 148 (dk_at dksX1_publishes_4 17 rfl rfl)
theorem dX1_publishes_113 : decode cX1_publishes 113 = .ok (.invokespecial 151, 3) := dk_183 0 151 (dk_at dksX1_publishes_4 20 rfl rfl)
theorem dX1_publishes_116 : decode cX1_publishes 116 = .ok (.invokevirtual 154, 3) := dk_182 0 154 (dk_at dksX1_publishes_5 0 rfl rfl)
theorem dX1_publishes_119 : decode cX1_publishes 119 = .ok (.goto 20, 3) := dk_167 0 20 (dk_at dksX1_publishes_5 3 rfl rfl)
theorem dX1_publishes_122 : decode cX1_publishes 122 = .ok (.aload 5, 2) := dk_25 5 (dk_at dksX1_publishes_5 6 rfl rfl)
theorem dX1_publishes_124 : decode cX1_publishes 124 = .ok (.getfield 86, 3) := dk_180 0 86 (dk_at dksX1_publishes_5 8 rfl rfl)
theorem dX1_publishes_127 : decode cX1_publishes 127 = .ok (.new 93, 3) := dk_187 0 93 (dk_at dksX1_publishes_5 11 rfl rfl)
theorem dX1_publishes_130 : decode cX1_publishes 130 = .ok (.dup, 1) := dk_89 (dk_at dksX1_publishes_5 14 rfl rfl)
theorem dX1_publishes_131 : decode cX1_publishes 131 = .ok (.aload_n 2, 1) := dk_44 (dk_at dksX1_publishes_5 15 rfl rfl)
theorem dX1_publishes_132 : decode cX1_publishes 132 = .ok (.invokespecial 158, 3) := dk_183 0 158 (dk_at dksX1_publishes_5 16 rfl rfl)
theorem dX1_publishes_135 : decode cX1_publishes 135 = .ok (.invokevirtual 58, 3) := dk_182 0 58 (dk_at dksX1_publishes_5 19 rfl rfl)
theorem dX1_publishes_138 : decode cX1_publishes 138 = .ok (.pop, 1) := dk_87 (dk_at dksX1_publishes_5 22 rfl rfl)
theorem dX1_publishes_139 : decode cX1_publishes 139 = .ok (.iinc 4 1, 3) := dk_132 4 1 (dk_at dksX1_publishes_6 0 rfl rfl)
theorem dX1_publishes_142 : decode cX1_publishes 142 = .ok (.goto (-101), 3) := dk_167 255 155 (dk_at dksX1_publishes_6 3 rfl rfl)
theorem dX1_publishes_145 : decode cX1_publishes 145 = .ok (.iload_n 3, 1) := dk_29 (dk_at dksX1_publishes_6 6 rfl rfl)
theorem dX1_publishes_146 : decode cX1_publishes 146 = .ok (.ireturn, 1) := dk_172 (dk_at dksX1_publishes_6 7 rfl rfl)
abbrev cX1_buries : ByteArray := prog_22_method_5_code
def yX1_buries : MethodName := ⟨RX1, "buries", "(LCreditBroker$Queue;LCreditBroker$Message;LCreditBroker$Cause;)V"⟩
def dkwX1_buries_2 : List UInt8 := [181, 0, 125, 177]
abbrev dktX1_buries_2 : List UInt8 := dkwX1_buries_2 ++ []
def dkwX1_buries_1 : List UInt8 := [182, 0, 121, 16, 30, 164, 0, 11, 42, 180, 0, 27, 182, 0, 122, 87, 43, 89, 180, 0, 125, 4, 96]
abbrev dktX1_buries_1 : List UInt8 := dkwX1_buries_1 ++ dktX1_buries_2
def dkwX1_buries_0 : List UInt8 := [42, 180, 0, 27, 187, 0, 111, 89, 44, 43, 180, 0, 113, 45, 183, 0, 114, 182, 0, 117, 42, 180, 0, 27]
abbrev dktX1_buries_0 : List UInt8 := dkwX1_buries_0 ++ dktX1_buries_1
theorem dksX1_buries_0 : cX1_buries.data.toList.drop 0 = dktX1_buries_0 := by decide +kernel
theorem dksX1_buries_1 : cX1_buries.data.toList.drop 24 = dktX1_buries_1 := dk_seg dksX1_buries_0 24 rfl rfl
theorem dksX1_buries_2 : cX1_buries.data.toList.drop 47 = dktX1_buries_2 := dk_seg dksX1_buries_1 23 rfl rfl
theorem dX1_buries_0 : decode cX1_buries 0 = .ok (.aload_n 0, 1) := dk_42 (dk_at dksX1_buries_0 0 rfl rfl)
theorem dX1_buries_1 : decode cX1_buries 1 = .ok (.getfield 27, 3) := dk_180 0 27 (dk_at dksX1_buries_0 1 rfl rfl)
theorem dX1_buries_4 : decode cX1_buries 4 = .ok (.new 111, 3) := dk_187 0 111 (dk_at dksX1_buries_0 4 rfl rfl)
theorem dX1_buries_7 : decode cX1_buries 7 = .ok (.dup, 1) := dk_89 (dk_at dksX1_buries_0 7 rfl rfl)
theorem dX1_buries_8 : decode cX1_buries 8 = .ok (.aload_n 2, 1) := dk_44 (dk_at dksX1_buries_0 8 rfl rfl)
theorem dX1_buries_9 : decode cX1_buries 9 = .ok (.aload_n 1, 1) := dk_43 (dk_at dksX1_buries_0 9 rfl rfl)
theorem dX1_buries_10 : decode cX1_buries 10 = .ok (.getfield 113, 3) := dk_180 0 113 (dk_at dksX1_buries_0 10 rfl rfl)
theorem dX1_buries_13 : decode cX1_buries 13 = .ok (.aload_n 3, 1) := dk_45 (dk_at dksX1_buries_0 13 rfl rfl)
theorem dX1_buries_14 : decode cX1_buries 14 = .ok (.invokespecial 114, 3) := dk_183 0 114 (dk_at dksX1_buries_0 14 rfl rfl)
theorem dX1_buries_17 : decode cX1_buries 17 = .ok (.invokevirtual 117, 3) := dk_182 0 117 (dk_at dksX1_buries_0 17 rfl rfl)
theorem dX1_buries_20 : decode cX1_buries 20 = .ok (.aload_n 0, 1) := dk_42 (dk_at dksX1_buries_0 20 rfl rfl)
theorem dX1_buries_21 : decode cX1_buries 21 = .ok (.getfield 27, 3) := dk_180 0 27 (dk_at dksX1_buries_0 21 rfl rfl)
theorem dX1_buries_24 : decode cX1_buries 24 = .ok (.invokevirtual 121, 3) := dk_182 0 121 (dk_at dksX1_buries_1 0 rfl rfl)
theorem dX1_buries_27 : decode cX1_buries 27 = .ok (.bipush 30, 2) := dk_16 30 (dk_at dksX1_buries_1 3 rfl rfl)
theorem dX1_buries_29 : decode cX1_buries 29 = .ok (.if_icmp .le 11, 3) := dk_164 0 11 (dk_at dksX1_buries_1 5 rfl rfl)
theorem dX1_buries_32 : decode cX1_buries 32 = .ok (.aload_n 0, 1) := dk_42 (dk_at dksX1_buries_1 8 rfl rfl)
theorem dX1_buries_33 : decode cX1_buries 33 = .ok (.getfield 27, 3) := dk_180 0 27 (dk_at dksX1_buries_1 9 rfl rfl)
theorem dX1_buries_36 : decode cX1_buries 36 = .ok (.invokevirtual 122, 3) := dk_182 0 122 (dk_at dksX1_buries_1 12 rfl rfl)
theorem dX1_buries_39 : decode cX1_buries 39 = .ok (.pop, 1) := dk_87 (dk_at dksX1_buries_1 15 rfl rfl)
theorem dX1_buries_40 : decode cX1_buries 40 = .ok (.aload_n 1, 1) := dk_43 (dk_at dksX1_buries_1 16 rfl rfl)
theorem dX1_buries_41 : decode cX1_buries 41 = .ok (.dup, 1) := dk_89 (dk_at dksX1_buries_1 17 rfl rfl)
theorem dX1_buries_42 : decode cX1_buries 42 = .ok (.getfield 125, 3) := dk_180 0 125 (dk_at dksX1_buries_1 18 rfl rfl)
theorem dX1_buries_45 : decode cX1_buries 45 = .ok (.iconst 1, 1) := dk_4 (dk_at dksX1_buries_1 21 rfl rfl)
theorem dX1_buries_46 : decode cX1_buries 46 = .ok (.iadd, 1) := dk_96 (dk_at dksX1_buries_1 22 rfl rfl)
theorem dX1_buries_47 : decode cX1_buries 47 = .ok (.putfield 125, 3) := dk_181 0 125 (dk_at dksX1_buries_2 0 rfl rfl)
theorem dX1_buries_50 : decode cX1_buries 50 = .ok (.return_, 1) := dk_177 (dk_at dksX1_buries_2 3 rfl rfl)
abbrev cX1_gives : ByteArray := prog_22_method_9_code
def yX1_gives : MethodName := ⟨RX1, "gives", "(LCreditBroker$Queue;)I"⟩
def dkwX1_gives_3 : List UInt8 := [180, 0, 196, 4, 96, 181, 0, 196, 44, 180, 0, 95, 180, 0, 99, 172]
abbrev dktX1_gives_3 : List UInt8 := dkwX1_gives_3 ++ []
def dkwX1_gives_2 : List UInt8 := [181, 0, 172, 45, 89, 180, 0, 193, 4, 96, 181, 0, 193, 43, 45, 180, 0, 175, 181, 0, 176, 43, 89]
abbrev dktX1_gives_2 : List UInt8 := dkwX1_gives_2 ++ dktX1_gives_3
def dkwX1_gives_1 : List UInt8 := [180, 0, 76, 43, 180, 0, 186, 96, 45, 180, 0, 175, 182, 0, 189, 45, 89, 180, 0, 172, 4, 100]
abbrev dktX1_gives_1 : List UInt8 := dkwX1_gives_1 ++ dktX1_gives_2
def dkwX1_gives_0 : List UInt8 := [43, 182, 0, 179, 77, 42, 43, 182, 0, 182, 78, 44, 198, 0, 7, 45, 199, 0, 5, 2, 172, 44, 5, 42]
abbrev dktX1_gives_0 : List UInt8 := dkwX1_gives_0 ++ dktX1_gives_1
theorem dksX1_gives_0 : cX1_gives.data.toList.drop 0 = dktX1_gives_0 := by decide +kernel
theorem dksX1_gives_1 : cX1_gives.data.toList.drop 24 = dktX1_gives_1 := dk_seg dksX1_gives_0 24 rfl rfl
theorem dksX1_gives_2 : cX1_gives.data.toList.drop 46 = dktX1_gives_2 := dk_seg dksX1_gives_1 22 rfl rfl
theorem dksX1_gives_3 : cX1_gives.data.toList.drop 69 = dktX1_gives_3 := dk_seg dksX1_gives_2 23 rfl rfl
theorem dX1_gives_0 : decode cX1_gives 0 = .ok (.aload_n 1, 1) := dk_43 (dk_at dksX1_gives_0 0 rfl rfl)
theorem dX1_gives_1 : decode cX1_gives 1 = .ok (.invokevirtual 179, 3) := dk_182 0 179 (dk_at dksX1_gives_0 1 rfl rfl)
theorem dX1_gives_4 : decode cX1_gives 4 = .ok (.astore_n 2, 1) := dk_77 (dk_at dksX1_gives_0 4 rfl rfl)
theorem dX1_gives_5 : decode cX1_gives 5 = .ok (.aload_n 0, 1) := dk_42 (dk_at dksX1_gives_0 5 rfl rfl)
theorem dX1_gives_6 : decode cX1_gives 6 = .ok (.aload_n 1, 1) := dk_43 (dk_at dksX1_gives_0 6 rfl rfl)
theorem dX1_gives_7 : decode cX1_gives 7 = .ok (.invokevirtual 182, 3) := dk_182 0 182 (dk_at dksX1_gives_0 7 rfl rfl)
theorem dX1_gives_10 : decode cX1_gives 10 = .ok (.astore_n 3, 1) := dk_78 (dk_at dksX1_gives_0 10 rfl rfl)
theorem dX1_gives_11 : decode cX1_gives 11 = .ok (.aload_n 2, 1) := dk_44 (dk_at dksX1_gives_0 11 rfl rfl)
theorem dX1_gives_12 : decode cX1_gives 12 = .ok (.ifnull 7, 3) := dk_198 0 7 (dk_at dksX1_gives_0 12 rfl rfl)
theorem dX1_gives_15 : decode cX1_gives 15 = .ok (.aload_n 3, 1) := dk_45 (dk_at dksX1_gives_0 15 rfl rfl)
theorem dX1_gives_16 : decode cX1_gives 16 = .ok (.ifnonnull 5, 3) := dk_199 0 5 (dk_at dksX1_gives_0 16 rfl rfl)
theorem dX1_gives_19 : decode cX1_gives 19 = .ok (.iconst (-1), 1) := dk_2 (dk_at dksX1_gives_0 19 rfl rfl)
theorem dX1_gives_20 : decode cX1_gives 20 = .ok (.ireturn, 1) := dk_172 (dk_at dksX1_gives_0 20 rfl rfl)
theorem dX1_gives_21 : decode cX1_gives 21 = .ok (.aload_n 2, 1) := dk_44 (dk_at dksX1_gives_0 21 rfl rfl)
theorem dX1_gives_22 : decode cX1_gives 22 = .ok (.iconst 2, 1) := dk_5 (dk_at dksX1_gives_0 22 rfl rfl)
theorem dX1_gives_23 : decode cX1_gives 23 = .ok (.aload_n 0, 1) := dk_42 (dk_at dksX1_gives_0 23 rfl rfl)
theorem dX1_gives_24 : decode cX1_gives 24 = .ok (.getfield 76, 3) := dk_180 0 76 (dk_at dksX1_gives_1 0 rfl rfl)
theorem dX1_gives_27 : decode cX1_gives 27 = .ok (.aload_n 1, 1) := dk_43 (dk_at dksX1_gives_1 3 rfl rfl)
theorem dX1_gives_28 : decode cX1_gives 28 = .ok (.getfield 186, 3) := dk_180 0 186 (dk_at dksX1_gives_1 4 rfl rfl)
theorem dX1_gives_31 : decode cX1_gives 31 = .ok (.iadd, 1) := dk_96 (dk_at dksX1_gives_1 7 rfl rfl)
theorem dX1_gives_32 : decode cX1_gives 32 = .ok (.aload_n 3, 1) := dk_45 (dk_at dksX1_gives_1 8 rfl rfl)
theorem dX1_gives_33 : decode cX1_gives 33 = .ok (.getfield 175, 3) := dk_180 0 175 (dk_at dksX1_gives_1 9 rfl rfl)
theorem dX1_gives_36 : decode cX1_gives 36 = .ok (.invokevirtual 189, 3) := dk_182 0 189 (dk_at dksX1_gives_1 12 rfl rfl)
theorem dX1_gives_39 : decode cX1_gives 39 = .ok (.aload_n 3, 1) := dk_45 (dk_at dksX1_gives_1 15 rfl rfl)
theorem dX1_gives_40 : decode cX1_gives 40 = .ok (.dup, 1) := dk_89 (dk_at dksX1_gives_1 16 rfl rfl)
theorem dX1_gives_41 : decode cX1_gives 41 = .ok (.getfield 172, 3) := dk_180 0 172 (dk_at dksX1_gives_1 17 rfl rfl)
theorem dX1_gives_44 : decode cX1_gives 44 = .ok (.iconst 1, 1) := dk_4 (dk_at dksX1_gives_1 20 rfl rfl)
theorem dX1_gives_45 : decode cX1_gives 45 = .ok (.isub, 1) := dk_100 (dk_at dksX1_gives_1 21 rfl rfl)
theorem dX1_gives_46 : decode cX1_gives 46 = .ok (.putfield 172, 3) := dk_181 0 172 (dk_at dksX1_gives_2 0 rfl rfl)
theorem dX1_gives_49 : decode cX1_gives 49 = .ok (.aload_n 3, 1) := dk_45 (dk_at dksX1_gives_2 3 rfl rfl)
theorem dX1_gives_50 : decode cX1_gives 50 = .ok (.dup, 1) := dk_89 (dk_at dksX1_gives_2 4 rfl rfl)
theorem dX1_gives_51 : decode cX1_gives 51 = .ok (.getfield 193, 3) := dk_180 0 193 (dk_at dksX1_gives_2 5 rfl rfl)
theorem dX1_gives_54 : decode cX1_gives 54 = .ok (.iconst 1, 1) := dk_4 (dk_at dksX1_gives_2 8 rfl rfl)
theorem dX1_gives_55 : decode cX1_gives 55 = .ok (.iadd, 1) := dk_96 (dk_at dksX1_gives_2 9 rfl rfl)
theorem dX1_gives_56 : decode cX1_gives 56 = .ok (.putfield 193, 3) := dk_181 0 193 (dk_at dksX1_gives_2 10 rfl rfl)
theorem dX1_gives_59 : decode cX1_gives 59 = .ok (.aload_n 1, 1) := dk_43 (dk_at dksX1_gives_2 13 rfl rfl)
theorem dX1_gives_60 : decode cX1_gives 60 = .ok (.aload_n 3, 1) := dk_45 (dk_at dksX1_gives_2 14 rfl rfl)
theorem dX1_gives_61 : decode cX1_gives 61 = .ok (.getfield 175, 3) := dk_180 0 175 (dk_at dksX1_gives_2 15 rfl rfl)
theorem dX1_gives_64 : decode cX1_gives 64 = .ok (.putfield 176, 3) := dk_181 0 176 (dk_at dksX1_gives_2 18 rfl rfl)
theorem dX1_gives_67 : decode cX1_gives 67 = .ok (.aload_n 1, 1) := dk_43 (dk_at dksX1_gives_2 21 rfl rfl)
theorem dX1_gives_68 : decode cX1_gives 68 = .ok (.dup, 1) := dk_89 (dk_at dksX1_gives_2 22 rfl rfl)
theorem dX1_gives_69 : decode cX1_gives 69 = .ok (.getfield 196, 3) := dk_180 0 196 (dk_at dksX1_gives_3 0 rfl rfl)
theorem dX1_gives_72 : decode cX1_gives 72 = .ok (.iconst 1, 1) := dk_4 (dk_at dksX1_gives_3 3 rfl rfl)
theorem dX1_gives_73 : decode cX1_gives 73 = .ok (.iadd, 1) := dk_96 (dk_at dksX1_gives_3 4 rfl rfl)
theorem dX1_gives_74 : decode cX1_gives 74 = .ok (.putfield 196, 3) := dk_181 0 196 (dk_at dksX1_gives_3 5 rfl rfl)
theorem dX1_gives_77 : decode cX1_gives 77 = .ok (.aload_n 2, 1) := dk_44 (dk_at dksX1_gives_3 8 rfl rfl)
theorem dX1_gives_78 : decode cX1_gives 78 = .ok (.getfield 95, 3) := dk_180 0 95 (dk_at dksX1_gives_3 9 rfl rfl)
theorem dX1_gives_81 : decode cX1_gives 81 = .ok (.getfield 99, 3) := dk_180 0 99 (dk_at dksX1_gives_3 12 rfl rfl)
theorem dX1_gives_84 : decode cX1_gives 84 = .ok (.ireturn, 1) := dk_172 (dk_at dksX1_gives_3 15 rfl rfl)
abbrev cX1_who : ByteArray := prog_22_method_8_code
def yX1_who : MethodName := ⟨RX1, "who", "(LCreditBroker$Queue;)LCreditBroker$Consumer;"⟩
def dkwX1_who_6 : List UInt8 := [44, 176]
abbrev dktX1_who_6 : List UInt8 := dkwX1_who_6 ++ []
def dkwX1_who_5 : List UInt8 := [164, 0, 8, 25, 5, 167, 0, 4, 45, 78, 132, 4, 1, 167, 255, 133, 45, 198, 0, 7, 45, 167, 0, 4]
abbrev dktX1_who_5 : List UInt8 := dkwX1_who_5 ++ dktX1_who_6
def dkwX1_who_4 : List UInt8 := [167, 0, 4, 44, 77, 21, 6, 153, 0, 24, 45, 199, 0, 20, 25, 5, 180, 0, 175, 43, 180, 0, 176]
abbrev dktX1_who_4 : List UInt8 := dkwX1_who_4 ++ dktX1_who_5
def dkwX1_who_3 : List UInt8 := [180, 0, 172, 158, 0, 7, 4, 167, 0, 4, 3, 54, 6, 21, 6, 153, 0, 12, 44, 199, 0, 8, 25, 5]
abbrev dktX1_who_3 : List UInt8 := dkwX1_who_3 ++ dktX1_who_4
def dkwX1_who_2 : List UInt8 := [180, 0, 169, 153, 0, 18, 25, 5, 180, 0, 172, 158, 0, 8, 25, 5, 167, 0, 4, 1, 176, 25, 5]
abbrev dktX1_who_2 : List UInt8 := dkwX1_who_2 ++ dktX1_who_3
def dkwX1_who_1 : List UInt8 := [21, 4, 182, 0, 79, 192, 0, 62, 58, 5, 42, 25, 5, 43, 182, 0, 165, 154, 0, 6, 167, 0, 84, 43]
abbrev dktX1_who_1 : List UInt8 := dkwX1_who_1 ++ dktX1_who_2
def dkwX1_who_0 : List UInt8 := [1, 77, 1, 78, 3, 54, 4, 21, 4, 42, 180, 0, 18, 182, 0, 89, 162, 0, 117, 42, 180, 0, 18]
abbrev dktX1_who_0 : List UInt8 := dkwX1_who_0 ++ dktX1_who_1
theorem dksX1_who_0 : cX1_who.data.toList.drop 0 = dktX1_who_0 := by decide +kernel
theorem dksX1_who_1 : cX1_who.data.toList.drop 23 = dktX1_who_1 := dk_seg dksX1_who_0 23 rfl rfl
theorem dksX1_who_2 : cX1_who.data.toList.drop 47 = dktX1_who_2 := dk_seg dksX1_who_1 24 rfl rfl
theorem dksX1_who_3 : cX1_who.data.toList.drop 70 = dktX1_who_3 := dk_seg dksX1_who_2 23 rfl rfl
theorem dksX1_who_4 : cX1_who.data.toList.drop 94 = dktX1_who_4 := dk_seg dksX1_who_3 24 rfl rfl
theorem dksX1_who_5 : cX1_who.data.toList.drop 117 = dktX1_who_5 := dk_seg dksX1_who_4 23 rfl rfl
theorem dksX1_who_6 : cX1_who.data.toList.drop 141 = dktX1_who_6 := dk_seg dksX1_who_5 24 rfl rfl
theorem dX1_who_0 : decode cX1_who 0 = .ok (.aconst_null, 1) := dk_1 (dk_at dksX1_who_0 0 rfl rfl)
theorem dX1_who_1 : decode cX1_who 1 = .ok (.astore_n 2, 1) := dk_77 (dk_at dksX1_who_0 1 rfl rfl)
theorem dX1_who_2 : decode cX1_who 2 = .ok (.aconst_null, 1) := dk_1 (dk_at dksX1_who_0 2 rfl rfl)
theorem dX1_who_3 : decode cX1_who 3 = .ok (.astore_n 3, 1) := dk_78 (dk_at dksX1_who_0 3 rfl rfl)
theorem dX1_who_4 : decode cX1_who 4 = .ok (.iconst 0, 1) := dk_3 (dk_at dksX1_who_0 4 rfl rfl)
theorem dX1_who_5 : decode cX1_who 5 = .ok (.istore 4, 2) := dk_54 4 (dk_at dksX1_who_0 5 rfl rfl)
theorem dX1_who_7 : decode cX1_who 7 = .ok (.iload 4, 2) := dk_21 4 (dk_at dksX1_who_0 7 rfl rfl)
theorem dX1_who_9 : decode cX1_who 9 = .ok (.aload_n 0, 1) := dk_42 (dk_at dksX1_who_0 9 rfl rfl)
theorem dX1_who_10 : decode cX1_who 10 = .ok (.getfield 18, 3) := dk_180 0 18 (dk_at dksX1_who_0 10 rfl rfl)
theorem dX1_who_13 : decode cX1_who 13 = .ok (.invokevirtual 89, 3) := dk_182 0 89 (dk_at dksX1_who_0 13 rfl rfl)
theorem dX1_who_16 : decode cX1_who 16 = .ok (.if_icmp .ge 117, 3) := dk_162 0 117 (dk_at dksX1_who_0 16 rfl rfl)
theorem dX1_who_19 : decode cX1_who 19 = .ok (.aload_n 0, 1) := dk_42 (dk_at dksX1_who_0 19 rfl rfl)
theorem dX1_who_20 : decode cX1_who 20 = .ok (.getfield 18, 3) := dk_180 0 18 (dk_at dksX1_who_0 20 rfl rfl)
theorem dX1_who_23 : decode cX1_who 23 = .ok (.iload 4, 2) := dk_21 4 (dk_at dksX1_who_1 0 rfl rfl)
theorem dX1_who_25 : decode cX1_who 25 = .ok (.invokevirtual 79, 3) := dk_182 0 79 (dk_at dksX1_who_1 2 rfl rfl)
theorem dX1_who_28 : decode cX1_who 28 = .ok (.checkcast 62, 3) := dk_192 0 62 (dk_at dksX1_who_1 5 rfl rfl)
theorem dX1_who_31 : decode cX1_who 31 = .ok (.astore 5, 2) := dk_58 5 (dk_at dksX1_who_1 8 rfl rfl)
theorem dX1_who_33 : decode cX1_who 33 = .ok (.aload_n 0, 1) := dk_42 (dk_at dksX1_who_1 10 rfl rfl)
theorem dX1_who_34 : decode cX1_who 34 = .ok (.aload 5, 2) := dk_25 5 (dk_at dksX1_who_1 11 rfl rfl)
theorem dX1_who_36 : decode cX1_who 36 = .ok (.aload_n 1, 1) := dk_43 (dk_at dksX1_who_1 13 rfl rfl)
theorem dX1_who_37 : decode cX1_who 37 = .ok (.invokevirtual 165, 3) := dk_182 0 165 (dk_at dksX1_who_1 14 rfl rfl)
theorem dX1_who_40 : decode cX1_who 40 = .ok (.ifCond .ne 6, 3) := dk_154 0 6 (dk_at dksX1_who_1 17 rfl rfl)
theorem dX1_who_43 : decode cX1_who 43 = .ok (.goto 84, 3) := dk_167 0 84 (dk_at dksX1_who_1 20 rfl rfl)
theorem dX1_who_46 : decode cX1_who 46 = .ok (.aload_n 1, 1) := dk_43 (dk_at dksX1_who_1 23 rfl rfl)
theorem dX1_who_47 : decode cX1_who 47 = .ok (.getfield 169, 3) := dk_180 0 169 (dk_at dksX1_who_2 0 rfl rfl)
theorem dX1_who_50 : decode cX1_who 50 = .ok (.ifCond .eq 18, 3) := dk_153 0 18 (dk_at dksX1_who_2 3 rfl rfl)
theorem dX1_who_53 : decode cX1_who 53 = .ok (.aload 5, 2) := dk_25 5 (dk_at dksX1_who_2 6 rfl rfl)
theorem dX1_who_55 : decode cX1_who 55 = .ok (.getfield 172, 3) := dk_180 0 172 (dk_at dksX1_who_2 8 rfl rfl)
theorem dX1_who_58 : decode cX1_who 58 = .ok (.ifCond .le 8, 3) := dk_158 0 8 (dk_at dksX1_who_2 11 rfl rfl)
theorem dX1_who_61 : decode cX1_who 61 = .ok (.aload 5, 2) := dk_25 5 (dk_at dksX1_who_2 14 rfl rfl)
theorem dX1_who_63 : decode cX1_who 63 = .ok (.goto 4, 3) := dk_167 0 4 (dk_at dksX1_who_2 16 rfl rfl)
theorem dX1_who_66 : decode cX1_who 66 = .ok (.aconst_null, 1) := dk_1 (dk_at dksX1_who_2 19 rfl rfl)
theorem dX1_who_67 : decode cX1_who 67 = .ok (.areturn, 1) := dk_176 (dk_at dksX1_who_2 20 rfl rfl)
theorem dX1_who_68 : decode cX1_who 68 = .ok (.aload 5, 2) := dk_25 5 (dk_at dksX1_who_2 21 rfl rfl)
theorem dX1_who_70 : decode cX1_who 70 = .ok (.getfield 172, 3) := dk_180 0 172 (dk_at dksX1_who_3 0 rfl rfl)
theorem dX1_who_73 : decode cX1_who 73 = .ok (.ifCond .le 7, 3) := dk_158 0 7 (dk_at dksX1_who_3 3 rfl rfl)
theorem dX1_who_76 : decode cX1_who 76 = .ok (.iconst 1, 1) := dk_4 (dk_at dksX1_who_3 6 rfl rfl)
theorem dX1_who_77 : decode cX1_who 77 = .ok (.goto 4, 3) := dk_167 0 4 (dk_at dksX1_who_3 7 rfl rfl)
theorem dX1_who_80 : decode cX1_who 80 = .ok (.iconst 0, 1) := dk_3 (dk_at dksX1_who_3 10 rfl rfl)
theorem dX1_who_81 : decode cX1_who 81 = .ok (.istore 6, 2) := dk_54 6 (dk_at dksX1_who_3 11 rfl rfl)
theorem dX1_who_83 : decode cX1_who 83 = .ok (.iload 6, 2) := dk_21 6 (dk_at dksX1_who_3 13 rfl rfl)
theorem dX1_who_85 : decode cX1_who 85 = .ok (.ifCond .eq 12, 3) := dk_153 0 12 (dk_at dksX1_who_3 15 rfl rfl)
theorem dX1_who_88 : decode cX1_who 88 = .ok (.aload_n 2, 1) := dk_44 (dk_at dksX1_who_3 18 rfl rfl)
theorem dX1_who_89 : decode cX1_who 89 = .ok (.ifnonnull 8, 3) := dk_199 0 8 (dk_at dksX1_who_3 19 rfl rfl)
theorem dX1_who_92 : decode cX1_who 92 = .ok (.aload 5, 2) := dk_25 5 (dk_at dksX1_who_3 22 rfl rfl)
theorem dX1_who_94 : decode cX1_who 94 = .ok (.goto 4, 3) := dk_167 0 4 (dk_at dksX1_who_4 0 rfl rfl)
theorem dX1_who_97 : decode cX1_who 97 = .ok (.aload_n 2, 1) := dk_44 (dk_at dksX1_who_4 3 rfl rfl)
theorem dX1_who_98 : decode cX1_who 98 = .ok (.astore_n 2, 1) := dk_77 (dk_at dksX1_who_4 4 rfl rfl)
theorem dX1_who_99 : decode cX1_who 99 = .ok (.iload 6, 2) := dk_21 6 (dk_at dksX1_who_4 5 rfl rfl)
theorem dX1_who_101 : decode cX1_who 101 = .ok (.ifCond .eq 24, 3) := dk_153 0 24 (dk_at dksX1_who_4 7 rfl rfl)
theorem dX1_who_104 : decode cX1_who 104 = .ok (.aload_n 3, 1) := dk_45 (dk_at dksX1_who_4 10 rfl rfl)
theorem dX1_who_105 : decode cX1_who 105 = .ok (.ifnonnull 20, 3) := dk_199 0 20 (dk_at dksX1_who_4 11 rfl rfl)
theorem dX1_who_108 : decode cX1_who 108 = .ok (.aload 5, 2) := dk_25 5 (dk_at dksX1_who_4 14 rfl rfl)
theorem dX1_who_110 : decode cX1_who 110 = .ok (.getfield 175, 3) := dk_180 0 175 (dk_at dksX1_who_4 16 rfl rfl)
theorem dX1_who_113 : decode cX1_who 113 = .ok (.aload_n 1, 1) := dk_43 (dk_at dksX1_who_4 19 rfl rfl)
theorem dX1_who_114 : decode cX1_who 114 = .ok (.getfield 176, 3) := dk_180 0 176 (dk_at dksX1_who_4 20 rfl rfl)
theorem dX1_who_117 : decode cX1_who 117 = .ok (.if_icmp .le 8, 3) := dk_164 0 8 (dk_at dksX1_who_5 0 rfl rfl)
theorem dX1_who_120 : decode cX1_who 120 = .ok (.aload 5, 2) := dk_25 5 (dk_at dksX1_who_5 3 rfl rfl)
theorem dX1_who_122 : decode cX1_who 122 = .ok (.goto 4, 3) := dk_167 0 4 (dk_at dksX1_who_5 5 rfl rfl)
theorem dX1_who_125 : decode cX1_who 125 = .ok (.aload_n 3, 1) := dk_45 (dk_at dksX1_who_5 8 rfl rfl)
theorem dX1_who_126 : decode cX1_who 126 = .ok (.astore_n 3, 1) := dk_78 (dk_at dksX1_who_5 9 rfl rfl)
theorem dX1_who_127 : decode cX1_who 127 = .ok (.iinc 4 1, 3) := dk_132 4 1 (dk_at dksX1_who_5 10 rfl rfl)
theorem dX1_who_130 : decode cX1_who 130 = .ok (.goto (-123), 3) := dk_167 255 133 (dk_at dksX1_who_5 13 rfl rfl)
theorem dX1_who_133 : decode cX1_who 133 = .ok (.aload_n 3, 1) := dk_45 (dk_at dksX1_who_5 16 rfl rfl)
theorem dX1_who_134 : decode cX1_who 134 = .ok (.ifnull 7, 3) := dk_198 0 7 (dk_at dksX1_who_5 17 rfl rfl)
theorem dX1_who_137 : decode cX1_who 137 = .ok (.aload_n 3, 1) := dk_45 (dk_at dksX1_who_5 20 rfl rfl)
theorem dX1_who_138 : decode cX1_who 138 = .ok (.goto 4, 3) := dk_167 0 4 (dk_at dksX1_who_5 21 rfl rfl)
theorem dX1_who_141 : decode cX1_who 141 = .ok (.aload_n 2, 1) := dk_44 (dk_at dksX1_who_6 0 rfl rfl)
theorem dX1_who_142 : decode cX1_who 142 = .ok (.areturn, 1) := dk_176 (dk_at dksX1_who_6 1 rfl rfl)
abbrev cX1_isOf : ByteArray := prog_22_method_7_code
def yX1_isOf : MethodName := ⟨RX1, "isOf", "(LCreditBroker$Consumer;LCreditBroker$Queue;)Z"⟩
def dkwX1_isOf_0 : List UInt8 := [43, 180, 0, 83, 44, 180, 0, 113, 160, 0, 14, 43, 180, 0, 161, 154, 0, 7, 4, 167, 0, 4, 3, 172]
abbrev dktX1_isOf_0 : List UInt8 := dkwX1_isOf_0 ++ []
theorem dksX1_isOf_0 : cX1_isOf.data.toList.drop 0 = dktX1_isOf_0 := by decide +kernel
theorem dX1_isOf_0 : decode cX1_isOf 0 = .ok (.aload_n 1, 1) := dk_43 (dk_at dksX1_isOf_0 0 rfl rfl)
theorem dX1_isOf_1 : decode cX1_isOf 1 = .ok (.getfield 83, 3) := dk_180 0 83 (dk_at dksX1_isOf_0 1 rfl rfl)
theorem dX1_isOf_4 : decode cX1_isOf 4 = .ok (.aload_n 2, 1) := dk_44 (dk_at dksX1_isOf_0 4 rfl rfl)
theorem dX1_isOf_5 : decode cX1_isOf 5 = .ok (.getfield 113, 3) := dk_180 0 113 (dk_at dksX1_isOf_0 5 rfl rfl)
theorem dX1_isOf_8 : decode cX1_isOf 8 = .ok (.if_icmp .ne 14, 3) := dk_160 0 14 (dk_at dksX1_isOf_0 8 rfl rfl)
theorem dX1_isOf_11 : decode cX1_isOf 11 = .ok (.aload_n 1, 1) := dk_43 (dk_at dksX1_isOf_0 11 rfl rfl)
theorem dX1_isOf_12 : decode cX1_isOf 12 = .ok (.getfield 161, 3) := dk_180 0 161 (dk_at dksX1_isOf_0 12 rfl rfl)
theorem dX1_isOf_15 : decode cX1_isOf 15 = .ok (.ifCond .ne 7, 3) := dk_154 0 7 (dk_at dksX1_isOf_0 15 rfl rfl)
theorem dX1_isOf_18 : decode cX1_isOf 18 = .ok (.iconst 1, 1) := dk_4 (dk_at dksX1_isOf_0 18 rfl rfl)
theorem dX1_isOf_19 : decode cX1_isOf 19 = .ok (.goto 4, 3) := dk_167 0 4 (dk_at dksX1_isOf_0 19 rfl rfl)
theorem dX1_isOf_22 : decode cX1_isOf 22 = .ok (.iconst 0, 1) := dk_3 (dk_at dksX1_isOf_0 22 rfl rfl)
theorem dX1_isOf_23 : decode cX1_isOf 23 = .ok (.ireturn, 1) := dk_172 (dk_at dksX1_isOf_0 23 rfl rfl)
abbrev cX1_held : ByteArray := prog_22_method_3_code
def yX1_held : MethodName := ⟨RX1, "held", "(II)LCreditBroker$Letter;"⟩
def dkwX1_held_3 : List UInt8 := [182, 0, 104, 153, 0, 13, 45, 21, 4, 182, 0, 79, 192, 0, 93, 176, 132, 4, 1, 167, 255, 199, 1, 176]
abbrev dktX1_held_3 : List UInt8 := dkwX1_held_3 ++ []
def dkwX1_held_2 : List UInt8 := [192, 0, 93, 180, 0, 95, 180, 0, 99, 28, 160, 0, 29, 45, 21, 4, 182, 0, 79, 192, 0, 93, 27]
abbrev dktX1_held_2 : List UInt8 := dkwX1_held_2 ++ dktX1_held_3
def dkwX1_held_1 : List UInt8 := [180, 0, 86, 78, 3, 54, 4, 21, 4, 45, 182, 0, 89, 162, 0, 54, 45, 21, 4, 182, 0, 79]
abbrev dktX1_held_1 : List UInt8 := dkwX1_held_1 ++ dktX1_held_2
def dkwX1_held_0 : List UInt8 := [42, 180, 0, 12, 42, 180, 0, 18, 27, 182, 0, 79, 192, 0, 62, 180, 0, 83, 182, 0, 79, 192, 0, 53]
abbrev dktX1_held_0 : List UInt8 := dkwX1_held_0 ++ dktX1_held_1
theorem dksX1_held_0 : cX1_held.data.toList.drop 0 = dktX1_held_0 := by decide +kernel
theorem dksX1_held_1 : cX1_held.data.toList.drop 24 = dktX1_held_1 := dk_seg dksX1_held_0 24 rfl rfl
theorem dksX1_held_2 : cX1_held.data.toList.drop 46 = dktX1_held_2 := dk_seg dksX1_held_1 22 rfl rfl
theorem dksX1_held_3 : cX1_held.data.toList.drop 69 = dktX1_held_3 := dk_seg dksX1_held_2 23 rfl rfl
theorem dX1_held_0 : decode cX1_held 0 = .ok (.aload_n 0, 1) := dk_42 (dk_at dksX1_held_0 0 rfl rfl)
theorem dX1_held_1 : decode cX1_held 1 = .ok (.getfield 12, 3) := dk_180 0 12 (dk_at dksX1_held_0 1 rfl rfl)
theorem dX1_held_4 : decode cX1_held 4 = .ok (.aload_n 0, 1) := dk_42 (dk_at dksX1_held_0 4 rfl rfl)
theorem dX1_held_5 : decode cX1_held 5 = .ok (.getfield 18, 3) := dk_180 0 18 (dk_at dksX1_held_0 5 rfl rfl)
theorem dX1_held_8 : decode cX1_held 8 = .ok (.iload_n 1, 1) := dk_27 (dk_at dksX1_held_0 8 rfl rfl)
theorem dX1_held_9 : decode cX1_held 9 = .ok (.invokevirtual 79, 3) := dk_182 0 79 (dk_at dksX1_held_0 9 rfl rfl)
theorem dX1_held_12 : decode cX1_held 12 = .ok (.checkcast 62, 3) := dk_192 0 62 (dk_at dksX1_held_0 12 rfl rfl)
theorem dX1_held_15 : decode cX1_held 15 = .ok (.getfield 83, 3) := dk_180 0 83 (dk_at dksX1_held_0 15 rfl rfl)
theorem dX1_held_18 : decode cX1_held 18 = .ok (.invokevirtual 79, 3) := dk_182 0 79 (dk_at dksX1_held_0 18 rfl rfl)
theorem dX1_held_21 : decode cX1_held 21 = .ok (.checkcast 53, 3) := dk_192 0 53 (dk_at dksX1_held_0 21 rfl rfl)
theorem dX1_held_24 : decode cX1_held 24 = .ok (.getfield 86, 3) := dk_180 0 86 (dk_at dksX1_held_1 0 rfl rfl)
theorem dX1_held_27 : decode cX1_held 27 = .ok (.astore_n 3, 1) := dk_78 (dk_at dksX1_held_1 3 rfl rfl)
theorem dX1_held_28 : decode cX1_held 28 = .ok (.iconst 0, 1) := dk_3 (dk_at dksX1_held_1 4 rfl rfl)
theorem dX1_held_29 : decode cX1_held 29 = .ok (.istore 4, 2) := dk_54 4 (dk_at dksX1_held_1 5 rfl rfl)
theorem dX1_held_31 : decode cX1_held 31 = .ok (.iload 4, 2) := dk_21 4 (dk_at dksX1_held_1 7 rfl rfl)
theorem dX1_held_33 : decode cX1_held 33 = .ok (.aload_n 3, 1) := dk_45 (dk_at dksX1_held_1 9 rfl rfl)
theorem dX1_held_34 : decode cX1_held 34 = .ok (.invokevirtual 89, 3) := dk_182 0 89 (dk_at dksX1_held_1 10 rfl rfl)
theorem dX1_held_37 : decode cX1_held 37 = .ok (.if_icmp .ge 54, 3) := dk_162 0 54 (dk_at dksX1_held_1 13 rfl rfl)
theorem dX1_held_40 : decode cX1_held 40 = .ok (.aload_n 3, 1) := dk_45 (dk_at dksX1_held_1 16 rfl rfl)
theorem dX1_held_41 : decode cX1_held 41 = .ok (.iload 4, 2) := dk_21 4 (dk_at dksX1_held_1 17 rfl rfl)
theorem dX1_held_43 : decode cX1_held 43 = .ok (.invokevirtual 79, 3) := dk_182 0 79 (dk_at dksX1_held_1 19 rfl rfl)
theorem dX1_held_46 : decode cX1_held 46 = .ok (.checkcast 93, 3) := dk_192 0 93 (dk_at dksX1_held_2 0 rfl rfl)
theorem dX1_held_49 : decode cX1_held 49 = .ok (.getfield 95, 3) := dk_180 0 95 (dk_at dksX1_held_2 3 rfl rfl)
theorem dX1_held_52 : decode cX1_held 52 = .ok (.getfield 99, 3) := dk_180 0 99 (dk_at dksX1_held_2 6 rfl rfl)
theorem dX1_held_55 : decode cX1_held 55 = .ok (.iload_n 2, 1) := dk_28 (dk_at dksX1_held_2 9 rfl rfl)
theorem dX1_held_56 : decode cX1_held 56 = .ok (.if_icmp .ne 29, 3) := dk_160 0 29 (dk_at dksX1_held_2 10 rfl rfl)
theorem dX1_held_59 : decode cX1_held 59 = .ok (.aload_n 3, 1) := dk_45 (dk_at dksX1_held_2 13 rfl rfl)
theorem dX1_held_60 : decode cX1_held 60 = .ok (.iload 4, 2) := dk_21 4 (dk_at dksX1_held_2 14 rfl rfl)
theorem dX1_held_62 : decode cX1_held 62 = .ok (.invokevirtual 79, 3) := dk_182 0 79 (dk_at dksX1_held_2 16 rfl rfl)
theorem dX1_held_65 : decode cX1_held 65 = .ok (.checkcast 93, 3) := dk_192 0 93 (dk_at dksX1_held_2 19 rfl rfl)
theorem dX1_held_68 : decode cX1_held 68 = .ok (.iload_n 1, 1) := dk_27 (dk_at dksX1_held_2 22 rfl rfl)
theorem dX1_held_69 : decode cX1_held 69 = .ok (.invokevirtual 104, 3) := dk_182 0 104 (dk_at dksX1_held_3 0 rfl rfl)
theorem dX1_held_72 : decode cX1_held 72 = .ok (.ifCond .eq 13, 3) := dk_153 0 13 (dk_at dksX1_held_3 3 rfl rfl)
theorem dX1_held_75 : decode cX1_held 75 = .ok (.aload_n 3, 1) := dk_45 (dk_at dksX1_held_3 6 rfl rfl)
theorem dX1_held_76 : decode cX1_held 76 = .ok (.iload 4, 2) := dk_21 4 (dk_at dksX1_held_3 7 rfl rfl)
theorem dX1_held_78 : decode cX1_held 78 = .ok (.invokevirtual 79, 3) := dk_182 0 79 (dk_at dksX1_held_3 9 rfl rfl)
theorem dX1_held_81 : decode cX1_held 81 = .ok (.checkcast 93, 3) := dk_192 0 93 (dk_at dksX1_held_3 12 rfl rfl)
theorem dX1_held_84 : decode cX1_held 84 = .ok (.areturn, 1) := dk_176 (dk_at dksX1_held_3 15 rfl rfl)
theorem dX1_held_85 : decode cX1_held 85 = .ok (.iinc 4 1, 3) := dk_132 4 1 (dk_at dksX1_held_3 16 rfl rfl)
theorem dX1_held_88 : decode cX1_held 88 = .ok (.goto (-57), 3) := dk_167 255 199 (dk_at dksX1_held_3 19 rfl rfl)
theorem dX1_held_91 : decode cX1_held 91 = .ok (.aconst_null, 1) := dk_1 (dk_at dksX1_held_3 22 rfl rfl)
theorem dX1_held_92 : decode cX1_held 92 = .ok (.areturn, 1) := dk_176 (dk_at dksX1_held_3 23 rfl rfl)
abbrev cX1_acknowledges : ByteArray := prog_22_method_11_code
def yX1_acknowledges : MethodName := ⟨RX1, "acknowledges", "(LCreditBroker$Consumer;LCreditBroker$Letter;)V"⟩
def dkwX1_acknowledges_1 : List UInt8 := [182, 0, 206, 89, 180, 0, 213, 4, 96, 181, 0, 213, 177]
abbrev dktX1_acknowledges_1 : List UInt8 := dkwX1_acknowledges_1 ++ []
def dkwX1_acknowledges_0 : List UInt8 := [42, 44, 182, 0, 199, 182, 0, 203, 42, 43, 182, 0, 206, 180, 0, 86, 44, 182, 0, 210, 87, 42, 43]
abbrev dktX1_acknowledges_0 : List UInt8 := dkwX1_acknowledges_0 ++ dktX1_acknowledges_1
theorem dksX1_acknowledges_0 : cX1_acknowledges.data.toList.drop 0 = dktX1_acknowledges_0 := by decide +kernel
theorem dksX1_acknowledges_1 : cX1_acknowledges.data.toList.drop 23 = dktX1_acknowledges_1 := dk_seg dksX1_acknowledges_0 23 rfl rfl
theorem dX1_acknowledges_0 : decode cX1_acknowledges 0 = .ok (.aload_n 0, 1) := dk_42 (dk_at dksX1_acknowledges_0 0 rfl rfl)
theorem dX1_acknowledges_1 : decode cX1_acknowledges 1 = .ok (.aload_n 2, 1) := dk_44 (dk_at dksX1_acknowledges_0 1 rfl rfl)
theorem dX1_acknowledges_2 : decode cX1_acknowledges 2 = .ok (.invokevirtual 199, 3) := dk_182 0 199 (dk_at dksX1_acknowledges_0 2 rfl rfl)
theorem dX1_acknowledges_5 : decode cX1_acknowledges 5 = .ok (.invokevirtual 203, 3) := dk_182 0 203 (dk_at dksX1_acknowledges_0 5 rfl rfl)
theorem dX1_acknowledges_8 : decode cX1_acknowledges 8 = .ok (.aload_n 0, 1) := dk_42 (dk_at dksX1_acknowledges_0 8 rfl rfl)
theorem dX1_acknowledges_9 : decode cX1_acknowledges 9 = .ok (.aload_n 1, 1) := dk_43 (dk_at dksX1_acknowledges_0 9 rfl rfl)
theorem dX1_acknowledges_10 : decode cX1_acknowledges 10 = .ok (.invokevirtual 206, 3) := dk_182 0 206 (dk_at dksX1_acknowledges_0 10 rfl rfl)
theorem dX1_acknowledges_13 : decode cX1_acknowledges 13 = .ok (.getfield 86, 3) := dk_180 0 86 (dk_at dksX1_acknowledges_0 13 rfl rfl)
theorem dX1_acknowledges_16 : decode cX1_acknowledges 16 = .ok (.aload_n 2, 1) := dk_44 (dk_at dksX1_acknowledges_0 16 rfl rfl)
theorem dX1_acknowledges_17 : decode cX1_acknowledges 17 = .ok (.invokevirtual 210, 3) := dk_182 0 210 (dk_at dksX1_acknowledges_0 17 rfl rfl)
theorem dX1_acknowledges_20 : decode cX1_acknowledges 20 = .ok (.pop, 1) := dk_87 (dk_at dksX1_acknowledges_0 20 rfl rfl)
theorem dX1_acknowledges_21 : decode cX1_acknowledges 21 = .ok (.aload_n 0, 1) := dk_42 (dk_at dksX1_acknowledges_0 21 rfl rfl)
theorem dX1_acknowledges_22 : decode cX1_acknowledges 22 = .ok (.aload_n 1, 1) := dk_43 (dk_at dksX1_acknowledges_0 22 rfl rfl)
theorem dX1_acknowledges_23 : decode cX1_acknowledges 23 = .ok (.invokevirtual 206, 3) := dk_182 0 206 (dk_at dksX1_acknowledges_1 0 rfl rfl)
theorem dX1_acknowledges_26 : decode cX1_acknowledges 26 = .ok (.dup, 1) := dk_89 (dk_at dksX1_acknowledges_1 3 rfl rfl)
theorem dX1_acknowledges_27 : decode cX1_acknowledges 27 = .ok (.getfield 213, 3) := dk_180 0 213 (dk_at dksX1_acknowledges_1 4 rfl rfl)
theorem dX1_acknowledges_30 : decode cX1_acknowledges 30 = .ok (.iconst 1, 1) := dk_4 (dk_at dksX1_acknowledges_1 7 rfl rfl)
theorem dX1_acknowledges_31 : decode cX1_acknowledges 31 = .ok (.iadd, 1) := dk_96 (dk_at dksX1_acknowledges_1 8 rfl rfl)
theorem dX1_acknowledges_32 : decode cX1_acknowledges 32 = .ok (.putfield 213, 3) := dk_181 0 213 (dk_at dksX1_acknowledges_1 9 rfl rfl)
theorem dX1_acknowledges_35 : decode cX1_acknowledges 35 = .ok (.return_, 1) := dk_177 (dk_at dksX1_acknowledges_1 12 rfl rfl)
abbrev cX1_returns : ByteArray := prog_22_method_4_code
def yX1_returns : MethodName := ⟨RX1, "returns", "(LCreditBroker$Letter;)LCreditBroker$Consumer;"⟩
def dkwX1_returns_0 : List UInt8 := [42, 180, 0, 18, 43, 180, 0, 108, 182, 0, 79, 192, 0, 62, 176]
abbrev dktX1_returns_0 : List UInt8 := dkwX1_returns_0 ++ []
theorem dksX1_returns_0 : cX1_returns.data.toList.drop 0 = dktX1_returns_0 := by decide +kernel
theorem dX1_returns_0 : decode cX1_returns 0 = .ok (.aload_n 0, 1) := dk_42 (dk_at dksX1_returns_0 0 rfl rfl)
theorem dX1_returns_1 : decode cX1_returns 1 = .ok (.getfield 18, 3) := dk_180 0 18 (dk_at dksX1_returns_0 1 rfl rfl)
theorem dX1_returns_4 : decode cX1_returns 4 = .ok (.aload_n 1, 1) := dk_43 (dk_at dksX1_returns_0 4 rfl rfl)
theorem dX1_returns_5 : decode cX1_returns 5 = .ok (.getfield 108, 3) := dk_180 0 108 (dk_at dksX1_returns_0 5 rfl rfl)
theorem dX1_returns_8 : decode cX1_returns 8 = .ok (.invokevirtual 79, 3) := dk_182 0 79 (dk_at dksX1_returns_0 8 rfl rfl)
theorem dX1_returns_11 : decode cX1_returns 11 = .ok (.checkcast 62, 3) := dk_192 0 62 (dk_at dksX1_returns_0 11 rfl rfl)
theorem dX1_returns_14 : decode cX1_returns 14 = .ok (.areturn, 1) := dk_176 (dk_at dksX1_returns_0 14 rfl rfl)
abbrev cX1_refuses : ByteArray := prog_22_method_13_code
def yX1_refuses : MethodName := ⟨RX1, "refuses", "(LCreditBroker$Consumer;LCreditBroker$Letter;)I"⟩
def dkwX1_refuses_2 : List UInt8 := [180, 0, 86, 44, 182, 0, 210, 87, 44, 180, 0, 220, 172]
abbrev dktX1_refuses_2 : List UInt8 := dkwX1_refuses_2 ++ []
def dkwX1_refuses_1 : List UInt8 := [42, 45, 44, 187, 0, 230, 89, 42, 180, 0, 76, 44, 183, 0, 232, 182, 0, 235, 153, 0, 12, 45]
abbrev dktX1_refuses_1 : List UInt8 := dkwX1_refuses_1 ++ dktX1_refuses_2
def dkwX1_refuses_0 : List UInt8 := [42, 44, 182, 0, 199, 182, 0, 203, 44, 89, 180, 0, 220, 4, 96, 181, 0, 220, 42, 43, 182, 0, 206, 78]
abbrev dktX1_refuses_0 : List UInt8 := dkwX1_refuses_0 ++ dktX1_refuses_1
theorem dksX1_refuses_0 : cX1_refuses.data.toList.drop 0 = dktX1_refuses_0 := by decide +kernel
theorem dksX1_refuses_1 : cX1_refuses.data.toList.drop 24 = dktX1_refuses_1 := dk_seg dksX1_refuses_0 24 rfl rfl
theorem dksX1_refuses_2 : cX1_refuses.data.toList.drop 46 = dktX1_refuses_2 := dk_seg dksX1_refuses_1 22 rfl rfl
theorem dX1_refuses_0 : decode cX1_refuses 0 = .ok (.aload_n 0, 1) := dk_42 (dk_at dksX1_refuses_0 0 rfl rfl)
theorem dX1_refuses_1 : decode cX1_refuses 1 = .ok (.aload_n 2, 1) := dk_44 (dk_at dksX1_refuses_0 1 rfl rfl)
theorem dX1_refuses_2 : decode cX1_refuses 2 = .ok (.invokevirtual 199, 3) := dk_182 0 199 (dk_at dksX1_refuses_0 2 rfl rfl)
theorem dX1_refuses_5 : decode cX1_refuses 5 = .ok (.invokevirtual 203, 3) := dk_182 0 203 (dk_at dksX1_refuses_0 5 rfl rfl)
theorem dX1_refuses_8 : decode cX1_refuses 8 = .ok (.aload_n 2, 1) := dk_44 (dk_at dksX1_refuses_0 8 rfl rfl)
theorem dX1_refuses_9 : decode cX1_refuses 9 = .ok (.dup, 1) := dk_89 (dk_at dksX1_refuses_0 9 rfl rfl)
theorem dX1_refuses_10 : decode cX1_refuses 10 = .ok (.getfield 220, 3) := dk_180 0 220 (dk_at dksX1_refuses_0 10 rfl rfl)
theorem dX1_refuses_13 : decode cX1_refuses 13 = .ok (.iconst 1, 1) := dk_4 (dk_at dksX1_refuses_0 13 rfl rfl)
theorem dX1_refuses_14 : decode cX1_refuses 14 = .ok (.iadd, 1) := dk_96 (dk_at dksX1_refuses_0 14 rfl rfl)
theorem dX1_refuses_15 : decode cX1_refuses 15 = .ok (.putfield 220, 3) := dk_181 0 220 (dk_at dksX1_refuses_0 15 rfl rfl)
theorem dX1_refuses_18 : decode cX1_refuses 18 = .ok (.aload_n 0, 1) := dk_42 (dk_at dksX1_refuses_0 18 rfl rfl)
theorem dX1_refuses_19 : decode cX1_refuses 19 = .ok (.aload_n 1, 1) := dk_43 (dk_at dksX1_refuses_0 19 rfl rfl)
theorem dX1_refuses_20 : decode cX1_refuses 20 = .ok (.invokevirtual 206, 3) := dk_182 0 206 (dk_at dksX1_refuses_0 20 rfl rfl)
theorem dX1_refuses_23 : decode cX1_refuses 23 = .ok (.astore_n 3, 1) := dk_78 (dk_at dksX1_refuses_0 23 rfl rfl)
theorem dX1_refuses_24 : decode cX1_refuses 24 = .ok (.aload_n 0, 1) := dk_42 (dk_at dksX1_refuses_1 0 rfl rfl)
theorem dX1_refuses_25 : decode cX1_refuses 25 = .ok (.aload_n 3, 1) := dk_45 (dk_at dksX1_refuses_1 1 rfl rfl)
theorem dX1_refuses_26 : decode cX1_refuses 26 = .ok (.aload_n 2, 1) := dk_44 (dk_at dksX1_refuses_1 2 rfl rfl)
theorem dX1_refuses_27 : decode cX1_refuses 27 = .ok (.new 230, 3) := dk_187 0 230 (dk_at dksX1_refuses_1 3 rfl rfl)
theorem dX1_refuses_30 : decode cX1_refuses 30 = .ok (.dup, 1) := dk_89 (dk_at dksX1_refuses_1 6 rfl rfl)
theorem dX1_refuses_31 : decode cX1_refuses 31 = .ok (.aload_n 0, 1) := dk_42 (dk_at dksX1_refuses_1 7 rfl rfl)
theorem dX1_refuses_32 : decode cX1_refuses 32 = .ok (.getfield 76, 3) := dk_180 0 76 (dk_at dksX1_refuses_1 8 rfl rfl)
theorem dX1_refuses_35 : decode cX1_refuses 35 = .ok (.aload_n 2, 1) := dk_44 (dk_at dksX1_refuses_1 11 rfl rfl)
theorem dX1_refuses_36 : decode cX1_refuses 36 = .ok (.invokespecial 232, 3) := dk_183 0 232 (dk_at dksX1_refuses_1 12 rfl rfl)
theorem dX1_refuses_39 : decode cX1_refuses 39 = .ok (.invokevirtual 235, 3) := dk_182 0 235 (dk_at dksX1_refuses_1 15 rfl rfl)
theorem dX1_refuses_42 : decode cX1_refuses 42 = .ok (.ifCond .eq 12, 3) := dk_153 0 12 (dk_at dksX1_refuses_1 18 rfl rfl)
theorem dX1_refuses_45 : decode cX1_refuses 45 = .ok (.aload_n 3, 1) := dk_45 (dk_at dksX1_refuses_1 21 rfl rfl)
theorem dX1_refuses_46 : decode cX1_refuses 46 = .ok (.getfield 86, 3) := dk_180 0 86 (dk_at dksX1_refuses_2 0 rfl rfl)
theorem dX1_refuses_49 : decode cX1_refuses 49 = .ok (.aload_n 2, 1) := dk_44 (dk_at dksX1_refuses_2 3 rfl rfl)
theorem dX1_refuses_50 : decode cX1_refuses 50 = .ok (.invokevirtual 210, 3) := dk_182 0 210 (dk_at dksX1_refuses_2 4 rfl rfl)
theorem dX1_refuses_53 : decode cX1_refuses 53 = .ok (.pop, 1) := dk_87 (dk_at dksX1_refuses_2 7 rfl rfl)
theorem dX1_refuses_54 : decode cX1_refuses 54 = .ok (.aload_n 2, 1) := dk_44 (dk_at dksX1_refuses_2 8 rfl rfl)
theorem dX1_refuses_55 : decode cX1_refuses 55 = .ok (.getfield 220, 3) := dk_180 0 220 (dk_at dksX1_refuses_2 9 rfl rfl)
theorem dX1_refuses_58 : decode cX1_refuses 58 = .ok (.ireturn, 1) := dk_172 (dk_at dksX1_refuses_2 12 rfl rfl)
abbrev cX1_fails : ByteArray := prog_22_method_12_code
def yX1_fails : MethodName := ⟨RX1, "fails", "(LCreditBroker$Queue;LCreditBroker$Letter;LCreditBroker$Cause;)Z"⟩
def dkwX1_fails_2 : List UInt8 := [182, 0, 189, 3, 172]
abbrev dktX1_fails_2 : List UInt8 := dkwX1_fails_2 ++ []
def dkwX1_fails_1 : List UInt8 := [182, 0, 154, 4, 172, 44, 4, 42, 180, 0, 76, 178, 0, 226, 44, 180, 0, 220, 4, 100, 46, 96, 2]
abbrev dktX1_fails_1 : List UInt8 := dkwX1_fails_1 ++ dktX1_fails_2
def dkwX1_fails_0 : List UInt8 := [44, 45, 181, 0, 216, 44, 180, 0, 220, 43, 180, 0, 223, 160, 0, 15, 42, 43, 44, 180, 0, 95, 45]
abbrev dktX1_fails_0 : List UInt8 := dkwX1_fails_0 ++ dktX1_fails_1
theorem dksX1_fails_0 : cX1_fails.data.toList.drop 0 = dktX1_fails_0 := by decide +kernel
theorem dksX1_fails_1 : cX1_fails.data.toList.drop 23 = dktX1_fails_1 := dk_seg dksX1_fails_0 23 rfl rfl
theorem dksX1_fails_2 : cX1_fails.data.toList.drop 46 = dktX1_fails_2 := dk_seg dksX1_fails_1 23 rfl rfl
theorem dX1_fails_0 : decode cX1_fails 0 = .ok (.aload_n 2, 1) := dk_44 (dk_at dksX1_fails_0 0 rfl rfl)
theorem dX1_fails_1 : decode cX1_fails 1 = .ok (.aload_n 3, 1) := dk_45 (dk_at dksX1_fails_0 1 rfl rfl)
theorem dX1_fails_2 : decode cX1_fails 2 = .ok (.putfield 216, 3) := dk_181 0 216 (dk_at dksX1_fails_0 2 rfl rfl)
theorem dX1_fails_5 : decode cX1_fails 5 = .ok (.aload_n 2, 1) := dk_44 (dk_at dksX1_fails_0 5 rfl rfl)
theorem dX1_fails_6 : decode cX1_fails 6 = .ok (.getfield 220, 3) := dk_180 0 220 (dk_at dksX1_fails_0 6 rfl rfl)
theorem dX1_fails_9 : decode cX1_fails 9 = .ok (.aload_n 1, 1) := dk_43 (dk_at dksX1_fails_0 9 rfl rfl)
theorem dX1_fails_10 : decode cX1_fails 10 = .ok (.getfield 223, 3) := dk_180 0 223 (dk_at dksX1_fails_0 10 rfl rfl)
theorem dX1_fails_13 : decode cX1_fails 13 = .ok (.if_icmp .ne 15, 3) := dk_160 0 15 (dk_at dksX1_fails_0 13 rfl rfl)
theorem dX1_fails_16 : decode cX1_fails 16 = .ok (.aload_n 0, 1) := dk_42 (dk_at dksX1_fails_0 16 rfl rfl)
theorem dX1_fails_17 : decode cX1_fails 17 = .ok (.aload_n 1, 1) := dk_43 (dk_at dksX1_fails_0 17 rfl rfl)
theorem dX1_fails_18 : decode cX1_fails 18 = .ok (.aload_n 2, 1) := dk_44 (dk_at dksX1_fails_0 18 rfl rfl)
theorem dX1_fails_19 : decode cX1_fails 19 = .ok (.getfield 95, 3) := dk_180 0 95 (dk_at dksX1_fails_0 19 rfl rfl)
theorem dX1_fails_22 : decode cX1_fails 22 = .ok (.aload_n 3, 1) := dk_45 (dk_at dksX1_fails_0 22 rfl rfl)
theorem dX1_fails_23 : decode cX1_fails 23 = .ok (.invokevirtual 154, 3) := dk_182 0 154 (dk_at dksX1_fails_1 0 rfl rfl)
theorem dX1_fails_26 : decode cX1_fails 26 = .ok (.iconst 1, 1) := dk_4 (dk_at dksX1_fails_1 3 rfl rfl)
theorem dX1_fails_27 : decode cX1_fails 27 = .ok (.ireturn, 1) := dk_172 (dk_at dksX1_fails_1 4 rfl rfl)
theorem dX1_fails_28 : decode cX1_fails 28 = .ok (.aload_n 2, 1) := dk_44 (dk_at dksX1_fails_1 5 rfl rfl)
theorem dX1_fails_29 : decode cX1_fails 29 = .ok (.iconst 1, 1) := dk_4 (dk_at dksX1_fails_1 6 rfl rfl)
theorem dX1_fails_30 : decode cX1_fails 30 = .ok (.aload_n 0, 1) := dk_42 (dk_at dksX1_fails_1 7 rfl rfl)
theorem dX1_fails_31 : decode cX1_fails 31 = .ok (.getfield 76, 3) := dk_180 0 76 (dk_at dksX1_fails_1 8 rfl rfl)
theorem dX1_fails_34 : decode cX1_fails 34 = .ok (.getstatic 226, 3) := dk_178 0 226 (dk_at dksX1_fails_1 11 rfl rfl)
theorem dX1_fails_37 : decode cX1_fails 37 = .ok (.aload_n 2, 1) := dk_44 (dk_at dksX1_fails_1 14 rfl rfl)
theorem dX1_fails_38 : decode cX1_fails 38 = .ok (.getfield 220, 3) := dk_180 0 220 (dk_at dksX1_fails_1 15 rfl rfl)
theorem dX1_fails_41 : decode cX1_fails 41 = .ok (.iconst 1, 1) := dk_4 (dk_at dksX1_fails_1 18 rfl rfl)
theorem dX1_fails_42 : decode cX1_fails 42 = .ok (.isub, 1) := dk_100 (dk_at dksX1_fails_1 19 rfl rfl)
theorem dX1_fails_43 : decode cX1_fails 43 = .ok (.iaload, 1) := dk_46 (dk_at dksX1_fails_1 20 rfl rfl)
theorem dX1_fails_44 : decode cX1_fails 44 = .ok (.iadd, 1) := dk_96 (dk_at dksX1_fails_1 21 rfl rfl)
theorem dX1_fails_45 : decode cX1_fails 45 = .ok (.iconst (-1), 1) := dk_2 (dk_at dksX1_fails_1 22 rfl rfl)
theorem dX1_fails_46 : decode cX1_fails 46 = .ok (.invokevirtual 189, 3) := dk_182 0 189 (dk_at dksX1_fails_2 0 rfl rfl)
theorem dX1_fails_49 : decode cX1_fails 49 = .ok (.iconst 0, 1) := dk_3 (dk_at dksX1_fails_2 3 rfl rfl)
theorem dX1_fails_50 : decode cX1_fails 50 = .ok (.ireturn, 1) := dk_172 (dk_at dksX1_fails_2 4 rfl rfl)
abbrev cX1_passes : ByteArray := prog_22_method_16_code
def yX1_passes : MethodName := ⟨RX1, "passes", "()I"⟩
def dkwX1_passes_4 : List UInt8 := [167, 255, 205, 132, 2, 1, 167, 255, 173, 27, 172]
abbrev dktX1_passes_4 : List UInt8 := dkwX1_passes_4 ++ []
def dkwX1_passes_3 : List UInt8 := [153, 0, 19, 45, 180, 0, 86, 21, 4, 182, 1, 6, 87, 132, 1, 1, 167, 255, 211, 132, 4, 1]
abbrev dktX1_passes_3 : List UInt8 := dkwX1_passes_3 ++ dktX1_passes_4
def dkwX1_passes_2 : List UInt8 := [182, 0, 89, 162, 0, 45, 42, 45, 45, 180, 0, 86, 21, 4, 182, 0, 79, 192, 0, 93, 182, 1, 2]
abbrev dktX1_passes_2 : List UInt8 := dkwX1_passes_2 ++ dktX1_passes_3
def dkwX1_passes_1 : List UInt8 := [162, 0, 78, 42, 180, 0, 12, 28, 182, 0, 79, 192, 0, 53, 78, 3, 54, 4, 21, 4, 45, 180, 0, 86]
abbrev dktX1_passes_1 : List UInt8 := dkwX1_passes_1 ++ dktX1_passes_2
def dkwX1_passes_0 : List UInt8 := [42, 89, 180, 0, 76, 4, 96, 181, 0, 76, 3, 60, 3, 61, 28, 42, 180, 0, 12, 182, 0, 89]
abbrev dktX1_passes_0 : List UInt8 := dkwX1_passes_0 ++ dktX1_passes_1
theorem dksX1_passes_0 : cX1_passes.data.toList.drop 0 = dktX1_passes_0 := by decide +kernel
theorem dksX1_passes_1 : cX1_passes.data.toList.drop 22 = dktX1_passes_1 := dk_seg dksX1_passes_0 22 rfl rfl
theorem dksX1_passes_2 : cX1_passes.data.toList.drop 46 = dktX1_passes_2 := dk_seg dksX1_passes_1 24 rfl rfl
theorem dksX1_passes_3 : cX1_passes.data.toList.drop 69 = dktX1_passes_3 := dk_seg dksX1_passes_2 23 rfl rfl
theorem dksX1_passes_4 : cX1_passes.data.toList.drop 91 = dktX1_passes_4 := dk_seg dksX1_passes_3 22 rfl rfl
theorem dX1_passes_0 : decode cX1_passes 0 = .ok (.aload_n 0, 1) := dk_42 (dk_at dksX1_passes_0 0 rfl rfl)
theorem dX1_passes_1 : decode cX1_passes 1 = .ok (.dup, 1) := dk_89 (dk_at dksX1_passes_0 1 rfl rfl)
theorem dX1_passes_2 : decode cX1_passes 2 = .ok (.getfield 76, 3) := dk_180 0 76 (dk_at dksX1_passes_0 2 rfl rfl)
theorem dX1_passes_5 : decode cX1_passes 5 = .ok (.iconst 1, 1) := dk_4 (dk_at dksX1_passes_0 5 rfl rfl)
theorem dX1_passes_6 : decode cX1_passes 6 = .ok (.iadd, 1) := dk_96 (dk_at dksX1_passes_0 6 rfl rfl)
theorem dX1_passes_7 : decode cX1_passes 7 = .ok (.putfield 76, 3) := dk_181 0 76 (dk_at dksX1_passes_0 7 rfl rfl)
theorem dX1_passes_10 : decode cX1_passes 10 = .ok (.iconst 0, 1) := dk_3 (dk_at dksX1_passes_0 10 rfl rfl)
theorem dX1_passes_11 : decode cX1_passes 11 = .ok (.istore_n 1, 1) := dk_60 (dk_at dksX1_passes_0 11 rfl rfl)
theorem dX1_passes_12 : decode cX1_passes 12 = .ok (.iconst 0, 1) := dk_3 (dk_at dksX1_passes_0 12 rfl rfl)
theorem dX1_passes_13 : decode cX1_passes 13 = .ok (.istore_n 2, 1) := dk_61 (dk_at dksX1_passes_0 13 rfl rfl)
theorem dX1_passes_14 : decode cX1_passes 14 = .ok (.iload_n 2, 1) := dk_28 (dk_at dksX1_passes_0 14 rfl rfl)
theorem dX1_passes_15 : decode cX1_passes 15 = .ok (.aload_n 0, 1) := dk_42 (dk_at dksX1_passes_0 15 rfl rfl)
theorem dX1_passes_16 : decode cX1_passes 16 = .ok (.getfield 12, 3) := dk_180 0 12 (dk_at dksX1_passes_0 16 rfl rfl)
theorem dX1_passes_19 : decode cX1_passes 19 = .ok (.invokevirtual 89, 3) := dk_182 0 89 (dk_at dksX1_passes_0 19 rfl rfl)
theorem dX1_passes_22 : decode cX1_passes 22 = .ok (.if_icmp .ge 78, 3) := dk_162 0 78 (dk_at dksX1_passes_1 0 rfl rfl)
theorem dX1_passes_25 : decode cX1_passes 25 = .ok (.aload_n 0, 1) := dk_42 (dk_at dksX1_passes_1 3 rfl rfl)
theorem dX1_passes_26 : decode cX1_passes 26 = .ok (.getfield 12, 3) := dk_180 0 12 (dk_at dksX1_passes_1 4 rfl rfl)
theorem dX1_passes_29 : decode cX1_passes 29 = .ok (.iload_n 2, 1) := dk_28 (dk_at dksX1_passes_1 7 rfl rfl)
theorem dX1_passes_30 : decode cX1_passes 30 = .ok (.invokevirtual 79, 3) := dk_182 0 79 (dk_at dksX1_passes_1 8 rfl rfl)
theorem dX1_passes_33 : decode cX1_passes 33 = .ok (.checkcast 53, 3) := dk_192 0 53 (dk_at dksX1_passes_1 11 rfl rfl)
theorem dX1_passes_36 : decode cX1_passes 36 = .ok (.astore_n 3, 1) := dk_78 (dk_at dksX1_passes_1 14 rfl rfl)
theorem dX1_passes_37 : decode cX1_passes 37 = .ok (.iconst 0, 1) := dk_3 (dk_at dksX1_passes_1 15 rfl rfl)
theorem dX1_passes_38 : decode cX1_passes 38 = .ok (.istore 4, 2) := dk_54 4 (dk_at dksX1_passes_1 16 rfl rfl)
theorem dX1_passes_40 : decode cX1_passes 40 = .ok (.iload 4, 2) := dk_21 4 (dk_at dksX1_passes_1 18 rfl rfl)
theorem dX1_passes_42 : decode cX1_passes 42 = .ok (.aload_n 3, 1) := dk_45 (dk_at dksX1_passes_1 20 rfl rfl)
theorem dX1_passes_43 : decode cX1_passes 43 = .ok (.getfield 86, 3) := dk_180 0 86 (dk_at dksX1_passes_1 21 rfl rfl)
theorem dX1_passes_46 : decode cX1_passes 46 = .ok (.invokevirtual 89, 3) := dk_182 0 89 (dk_at dksX1_passes_2 0 rfl rfl)
theorem dX1_passes_49 : decode cX1_passes 49 = .ok (.if_icmp .ge 45, 3) := dk_162 0 45 (dk_at dksX1_passes_2 3 rfl rfl)
theorem dX1_passes_52 : decode cX1_passes 52 = .ok (.aload_n 0, 1) := dk_42 (dk_at dksX1_passes_2 6 rfl rfl)
theorem dX1_passes_53 : decode cX1_passes 53 = .ok (.aload_n 3, 1) := dk_45 (dk_at dksX1_passes_2 7 rfl rfl)
theorem dX1_passes_54 : decode cX1_passes 54 = .ok (.aload_n 3, 1) := dk_45 (dk_at dksX1_passes_2 8 rfl rfl)
theorem dX1_passes_55 : decode cX1_passes 55 = .ok (.getfield 86, 3) := dk_180 0 86 (dk_at dksX1_passes_2 9 rfl rfl)
theorem dX1_passes_58 : decode cX1_passes 58 = .ok (.iload 4, 2) := dk_21 4 (dk_at dksX1_passes_2 12 rfl rfl)
theorem dX1_passes_60 : decode cX1_passes 60 = .ok (.invokevirtual 79, 3) := dk_182 0 79 (dk_at dksX1_passes_2 14 rfl rfl)
theorem dX1_passes_63 : decode cX1_passes 63 = .ok (.checkcast 93, 3) := dk_192 0 93 (dk_at dksX1_passes_2 17 rfl rfl)
theorem dX1_passes_66 : decode cX1_passes 66 = .ok (.invokevirtual 258, 3) := dk_182 1 2 (dk_at dksX1_passes_2 20 rfl rfl)
theorem dX1_passes_69 : decode cX1_passes 69 = .ok (.ifCond .eq 19, 3) := dk_153 0 19 (dk_at dksX1_passes_3 0 rfl rfl)
theorem dX1_passes_72 : decode cX1_passes 72 = .ok (.aload_n 3, 1) := dk_45 (dk_at dksX1_passes_3 3 rfl rfl)
theorem dX1_passes_73 : decode cX1_passes 73 = .ok (.getfield 86, 3) := dk_180 0 86 (dk_at dksX1_passes_3 4 rfl rfl)
theorem dX1_passes_76 : decode cX1_passes 76 = .ok (.iload 4, 2) := dk_21 4 (dk_at dksX1_passes_3 7 rfl rfl)
theorem dX1_passes_78 : decode cX1_passes 78 = .ok (.invokevirtual 262, 3) := dk_182 1 6 (dk_at dksX1_passes_3 9 rfl rfl)
theorem dX1_passes_81 : decode cX1_passes 81 = .ok (.pop, 1) := dk_87 (dk_at dksX1_passes_3 12 rfl rfl)
theorem dX1_passes_82 : decode cX1_passes 82 = .ok (.iinc 1 1, 3) := dk_132 1 1 (dk_at dksX1_passes_3 13 rfl rfl)
theorem dX1_passes_85 : decode cX1_passes 85 = .ok (.goto (-45), 3) := dk_167 255 211 (dk_at dksX1_passes_3 16 rfl rfl)
theorem dX1_passes_88 : decode cX1_passes 88 = .ok (.iinc 4 1, 3) := dk_132 4 1 (dk_at dksX1_passes_3 19 rfl rfl)
theorem dX1_passes_91 : decode cX1_passes 91 = .ok (.goto (-51), 3) := dk_167 255 205 (dk_at dksX1_passes_4 0 rfl rfl)
theorem dX1_passes_94 : decode cX1_passes 94 = .ok (.iinc 2 1, 3) := dk_132 2 1 (dk_at dksX1_passes_4 3 rfl rfl)
theorem dX1_passes_97 : decode cX1_passes 97 = .ok (.goto (-83), 3) := dk_167 255 173 (dk_at dksX1_passes_4 6 rfl rfl)
theorem dX1_passes_100 : decode cX1_passes 100 = .ok (.iload_n 1, 1) := dk_27 (dk_at dksX1_passes_4 9 rfl rfl)
theorem dX1_passes_101 : decode cX1_passes 101 = .ok (.ireturn, 1) := dk_172 (dk_at dksX1_passes_4 10 rfl rfl)
abbrev cX1_ages : ByteArray := prog_22_method_15_code
def yX1_ages : MethodName := ⟨RX1, "ages", "(LCreditBroker$Queue;LCreditBroker$Letter;)Z"⟩
def dkwX1_ages_6 : List UInt8 := [182, 0, 154, 29, 172]
abbrev dktX1_ages_6 : List UInt8 := dkwX1_ages_6 ++ []
def dkwX1_ages_5 : List UInt8 := [29, 153, 0, 24, 42, 43, 44, 180, 0, 95, 187, 0, 255, 89, 42, 180, 0, 76, 44, 183, 1, 1]
abbrev dktX1_ages_5 : List UInt8 := dkwX1_ages_5 ++ dktX1_ages_6
def dkwX1_ages_4 : List UInt8 := [180, 0, 76, 44, 180, 0, 95, 180, 0, 254, 100, 43, 180, 0, 251, 161, 0, 7, 4, 167, 0, 4, 3, 62]
abbrev dktX1_ages_4 : List UInt8 := dkwX1_ages_4 ++ dktX1_ages_5
def dkwX1_ages_3 : List UInt8 := [163, 0, 7, 44, 182, 0, 239, 43, 180, 0, 251, 158, 0, 33, 44, 180, 0, 242, 154, 0, 26, 42]
abbrev dktX1_ages_3 : List UInt8 := dkwX1_ages_3 ++ dktX1_ages_4
def dkwX1_ages_2 : List UInt8 := [44, 183, 0, 250, 182, 0, 235, 172, 44, 180, 0, 242, 4, 160, 0, 18, 44, 180, 0, 245, 42, 180, 0, 76]
abbrev dktX1_ages_2 : List UInt8 := dkwX1_ages_2 ++ dktX1_ages_3
def dkwX1_ages_1 : List UInt8 := [182, 0, 203, 44, 89, 180, 0, 220, 4, 96, 181, 0, 220, 42, 43, 44, 187, 0, 248, 89, 42, 180, 0, 76]
abbrev dktX1_ages_1 : List UInt8 := dkwX1_ages_1 ++ dktX1_ages_2
def dkwX1_ages_0 : List UInt8 := [44, 180, 0, 242, 5, 160, 0, 51, 44, 180, 0, 245, 42, 180, 0, 76, 163, 0, 40, 42, 44, 182, 0, 199]
abbrev dktX1_ages_0 : List UInt8 := dkwX1_ages_0 ++ dktX1_ages_1
theorem dksX1_ages_0 : cX1_ages.data.toList.drop 0 = dktX1_ages_0 := by decide +kernel
theorem dksX1_ages_1 : cX1_ages.data.toList.drop 24 = dktX1_ages_1 := dk_seg dksX1_ages_0 24 rfl rfl
theorem dksX1_ages_2 : cX1_ages.data.toList.drop 48 = dktX1_ages_2 := dk_seg dksX1_ages_1 24 rfl rfl
theorem dksX1_ages_3 : cX1_ages.data.toList.drop 72 = dktX1_ages_3 := dk_seg dksX1_ages_2 24 rfl rfl
theorem dksX1_ages_4 : cX1_ages.data.toList.drop 94 = dktX1_ages_4 := dk_seg dksX1_ages_3 22 rfl rfl
theorem dksX1_ages_5 : cX1_ages.data.toList.drop 118 = dktX1_ages_5 := dk_seg dksX1_ages_4 24 rfl rfl
theorem dksX1_ages_6 : cX1_ages.data.toList.drop 140 = dktX1_ages_6 := dk_seg dksX1_ages_5 22 rfl rfl
theorem dX1_ages_0 : decode cX1_ages 0 = .ok (.aload_n 2, 1) := dk_44 (dk_at dksX1_ages_0 0 rfl rfl)
theorem dX1_ages_1 : decode cX1_ages 1 = .ok (.getfield 242, 3) := dk_180 0 242 (dk_at dksX1_ages_0 1 rfl rfl)
theorem dX1_ages_4 : decode cX1_ages 4 = .ok (.iconst 2, 1) := dk_5 (dk_at dksX1_ages_0 4 rfl rfl)
theorem dX1_ages_5 : decode cX1_ages 5 = .ok (.if_icmp .ne 51, 3) := dk_160 0 51 (dk_at dksX1_ages_0 5 rfl rfl)
theorem dX1_ages_8 : decode cX1_ages 8 = .ok (.aload_n 2, 1) := dk_44 (dk_at dksX1_ages_0 8 rfl rfl)
theorem dX1_ages_9 : decode cX1_ages 9 = .ok (.getfield 245, 3) := dk_180 0 245 (dk_at dksX1_ages_0 9 rfl rfl)
theorem dX1_ages_12 : decode cX1_ages 12 = .ok (.aload_n 0, 1) := dk_42 (dk_at dksX1_ages_0 12 rfl rfl)
theorem dX1_ages_13 : decode cX1_ages 13 = .ok (.getfield 76, 3) := dk_180 0 76 (dk_at dksX1_ages_0 13 rfl rfl)
theorem dX1_ages_16 : decode cX1_ages 16 = .ok (.if_icmp .gt 40, 3) := dk_163 0 40 (dk_at dksX1_ages_0 16 rfl rfl)
theorem dX1_ages_19 : decode cX1_ages 19 = .ok (.aload_n 0, 1) := dk_42 (dk_at dksX1_ages_0 19 rfl rfl)
theorem dX1_ages_20 : decode cX1_ages 20 = .ok (.aload_n 2, 1) := dk_44 (dk_at dksX1_ages_0 20 rfl rfl)
theorem dX1_ages_21 : decode cX1_ages 21 = .ok (.invokevirtual 199, 3) := dk_182 0 199 (dk_at dksX1_ages_0 21 rfl rfl)
theorem dX1_ages_24 : decode cX1_ages 24 = .ok (.invokevirtual 203, 3) := dk_182 0 203 (dk_at dksX1_ages_1 0 rfl rfl)
theorem dX1_ages_27 : decode cX1_ages 27 = .ok (.aload_n 2, 1) := dk_44 (dk_at dksX1_ages_1 3 rfl rfl)
theorem dX1_ages_28 : decode cX1_ages 28 = .ok (.dup, 1) := dk_89 (dk_at dksX1_ages_1 4 rfl rfl)
theorem dX1_ages_29 : decode cX1_ages 29 = .ok (.getfield 220, 3) := dk_180 0 220 (dk_at dksX1_ages_1 5 rfl rfl)
theorem dX1_ages_32 : decode cX1_ages 32 = .ok (.iconst 1, 1) := dk_4 (dk_at dksX1_ages_1 8 rfl rfl)
theorem dX1_ages_33 : decode cX1_ages 33 = .ok (.iadd, 1) := dk_96 (dk_at dksX1_ages_1 9 rfl rfl)
theorem dX1_ages_34 : decode cX1_ages 34 = .ok (.putfield 220, 3) := dk_181 0 220 (dk_at dksX1_ages_1 10 rfl rfl)
theorem dX1_ages_37 : decode cX1_ages 37 = .ok (.aload_n 0, 1) := dk_42 (dk_at dksX1_ages_1 13 rfl rfl)
theorem dX1_ages_38 : decode cX1_ages 38 = .ok (.aload_n 1, 1) := dk_43 (dk_at dksX1_ages_1 14 rfl rfl)
theorem dX1_ages_39 : decode cX1_ages 39 = .ok (.aload_n 2, 1) := dk_44 (dk_at dksX1_ages_1 15 rfl rfl)
theorem dX1_ages_40 : decode cX1_ages 40 = .ok (.new 248, 3) := dk_187 0 248 (dk_at dksX1_ages_1 16 rfl rfl)
theorem dX1_ages_43 : decode cX1_ages 43 = .ok (.dup, 1) := dk_89 (dk_at dksX1_ages_1 19 rfl rfl)
theorem dX1_ages_44 : decode cX1_ages 44 = .ok (.aload_n 0, 1) := dk_42 (dk_at dksX1_ages_1 20 rfl rfl)
theorem dX1_ages_45 : decode cX1_ages 45 = .ok (.getfield 76, 3) := dk_180 0 76 (dk_at dksX1_ages_1 21 rfl rfl)
theorem dX1_ages_48 : decode cX1_ages 48 = .ok (.aload_n 2, 1) := dk_44 (dk_at dksX1_ages_2 0 rfl rfl)
theorem dX1_ages_49 : decode cX1_ages 49 = .ok (.invokespecial 250, 3) := dk_183 0 250 (dk_at dksX1_ages_2 1 rfl rfl)
theorem dX1_ages_52 : decode cX1_ages 52 = .ok (.invokevirtual 235, 3) := dk_182 0 235 (dk_at dksX1_ages_2 4 rfl rfl)
theorem dX1_ages_55 : decode cX1_ages 55 = .ok (.ireturn, 1) := dk_172 (dk_at dksX1_ages_2 7 rfl rfl)
theorem dX1_ages_56 : decode cX1_ages 56 = .ok (.aload_n 2, 1) := dk_44 (dk_at dksX1_ages_2 8 rfl rfl)
theorem dX1_ages_57 : decode cX1_ages 57 = .ok (.getfield 242, 3) := dk_180 0 242 (dk_at dksX1_ages_2 9 rfl rfl)
theorem dX1_ages_60 : decode cX1_ages 60 = .ok (.iconst 1, 1) := dk_4 (dk_at dksX1_ages_2 12 rfl rfl)
theorem dX1_ages_61 : decode cX1_ages 61 = .ok (.if_icmp .ne 18, 3) := dk_160 0 18 (dk_at dksX1_ages_2 13 rfl rfl)
theorem dX1_ages_64 : decode cX1_ages 64 = .ok (.aload_n 2, 1) := dk_44 (dk_at dksX1_ages_2 16 rfl rfl)
theorem dX1_ages_65 : decode cX1_ages 65 = .ok (.getfield 245, 3) := dk_180 0 245 (dk_at dksX1_ages_2 17 rfl rfl)
theorem dX1_ages_68 : decode cX1_ages 68 = .ok (.aload_n 0, 1) := dk_42 (dk_at dksX1_ages_2 20 rfl rfl)
theorem dX1_ages_69 : decode cX1_ages 69 = .ok (.getfield 76, 3) := dk_180 0 76 (dk_at dksX1_ages_2 21 rfl rfl)
theorem dX1_ages_72 : decode cX1_ages 72 = .ok (.if_icmp .gt 7, 3) := dk_163 0 7 (dk_at dksX1_ages_3 0 rfl rfl)
theorem dX1_ages_75 : decode cX1_ages 75 = .ok (.aload_n 2, 1) := dk_44 (dk_at dksX1_ages_3 3 rfl rfl)
theorem dX1_ages_76 : decode cX1_ages 76 = .ok (.invokevirtual 239, 3) := dk_182 0 239 (dk_at dksX1_ages_3 4 rfl rfl)
theorem dX1_ages_79 : decode cX1_ages 79 = .ok (.aload_n 1, 1) := dk_43 (dk_at dksX1_ages_3 7 rfl rfl)
theorem dX1_ages_80 : decode cX1_ages 80 = .ok (.getfield 251, 3) := dk_180 0 251 (dk_at dksX1_ages_3 8 rfl rfl)
theorem dX1_ages_83 : decode cX1_ages 83 = .ok (.ifCond .le 33, 3) := dk_158 0 33 (dk_at dksX1_ages_3 11 rfl rfl)
theorem dX1_ages_86 : decode cX1_ages 86 = .ok (.aload_n 2, 1) := dk_44 (dk_at dksX1_ages_3 14 rfl rfl)
theorem dX1_ages_87 : decode cX1_ages 87 = .ok (.getfield 242, 3) := dk_180 0 242 (dk_at dksX1_ages_3 15 rfl rfl)
theorem dX1_ages_90 : decode cX1_ages 90 = .ok (.ifCond .ne 26, 3) := dk_154 0 26 (dk_at dksX1_ages_3 18 rfl rfl)
theorem dX1_ages_93 : decode cX1_ages 93 = .ok (.aload_n 0, 1) := dk_42 (dk_at dksX1_ages_3 21 rfl rfl)
theorem dX1_ages_94 : decode cX1_ages 94 = .ok (.getfield 76, 3) := dk_180 0 76 (dk_at dksX1_ages_4 0 rfl rfl)
theorem dX1_ages_97 : decode cX1_ages 97 = .ok (.aload_n 2, 1) := dk_44 (dk_at dksX1_ages_4 3 rfl rfl)
theorem dX1_ages_98 : decode cX1_ages 98 = .ok (.getfield 95, 3) := dk_180 0 95 (dk_at dksX1_ages_4 4 rfl rfl)
theorem dX1_ages_101 : decode cX1_ages 101 = .ok (.getfield 254, 3) := dk_180 0 254 (dk_at dksX1_ages_4 7 rfl rfl)
theorem dX1_ages_104 : decode cX1_ages 104 = .ok (.isub, 1) := dk_100 (dk_at dksX1_ages_4 10 rfl rfl)
theorem dX1_ages_105 : decode cX1_ages 105 = .ok (.aload_n 1, 1) := dk_43 (dk_at dksX1_ages_4 11 rfl rfl)
theorem dX1_ages_106 : decode cX1_ages 106 = .ok (.getfield 251, 3) := dk_180 0 251 (dk_at dksX1_ages_4 12 rfl rfl)
theorem dX1_ages_109 : decode cX1_ages 109 = .ok (.if_icmp .lt 7, 3) := dk_161 0 7 (dk_at dksX1_ages_4 15 rfl rfl)
theorem dX1_ages_112 : decode cX1_ages 112 = .ok (.iconst 1, 1) := dk_4 (dk_at dksX1_ages_4 18 rfl rfl)
theorem dX1_ages_113 : decode cX1_ages 113 = .ok (.goto 4, 3) := dk_167 0 4 (dk_at dksX1_ages_4 19 rfl rfl)
theorem dX1_ages_116 : decode cX1_ages 116 = .ok (.iconst 0, 1) := dk_3 (dk_at dksX1_ages_4 22 rfl rfl)
theorem dX1_ages_117 : decode cX1_ages 117 = .ok (.istore_n 3, 1) := dk_62 (dk_at dksX1_ages_4 23 rfl rfl)
theorem dX1_ages_118 : decode cX1_ages 118 = .ok (.iload_n 3, 1) := dk_29 (dk_at dksX1_ages_5 0 rfl rfl)
theorem dX1_ages_119 : decode cX1_ages 119 = .ok (.ifCond .eq 24, 3) := dk_153 0 24 (dk_at dksX1_ages_5 1 rfl rfl)
theorem dX1_ages_122 : decode cX1_ages 122 = .ok (.aload_n 0, 1) := dk_42 (dk_at dksX1_ages_5 4 rfl rfl)
theorem dX1_ages_123 : decode cX1_ages 123 = .ok (.aload_n 1, 1) := dk_43 (dk_at dksX1_ages_5 5 rfl rfl)
theorem dX1_ages_124 : decode cX1_ages 124 = .ok (.aload_n 2, 1) := dk_44 (dk_at dksX1_ages_5 6 rfl rfl)
theorem dX1_ages_125 : decode cX1_ages 125 = .ok (.getfield 95, 3) := dk_180 0 95 (dk_at dksX1_ages_5 7 rfl rfl)
theorem dX1_ages_128 : decode cX1_ages 128 = .ok (.new 255, 3) := dk_187 0 255 (dk_at dksX1_ages_5 10 rfl rfl)
theorem dX1_ages_131 : decode cX1_ages 131 = .ok (.dup, 1) := dk_89 (dk_at dksX1_ages_5 13 rfl rfl)
theorem dX1_ages_132 : decode cX1_ages 132 = .ok (.aload_n 0, 1) := dk_42 (dk_at dksX1_ages_5 14 rfl rfl)
theorem dX1_ages_133 : decode cX1_ages 133 = .ok (.getfield 76, 3) := dk_180 0 76 (dk_at dksX1_ages_5 15 rfl rfl)
theorem dX1_ages_136 : decode cX1_ages 136 = .ok (.aload_n 2, 1) := dk_44 (dk_at dksX1_ages_5 18 rfl rfl)
theorem dX1_ages_137 : decode cX1_ages 137 = .ok (.invokespecial 257, 3) := dk_183 1 1 (dk_at dksX1_ages_5 19 rfl rfl)
theorem dX1_ages_140 : decode cX1_ages 140 = .ok (.invokevirtual 154, 3) := dk_182 0 154 (dk_at dksX1_ages_6 0 rfl rfl)
theorem dX1_ages_143 : decode cX1_ages 143 = .ok (.iload_n 3, 1) := dk_29 (dk_at dksX1_ages_6 3 rfl rfl)
theorem dX1_ages_144 : decode cX1_ages 144 = .ok (.ireturn, 1) := dk_172 (dk_at dksX1_ages_6 4 rfl rfl)
abbrev cX1_becomes : ByteArray := prog_22_method_2_code
def yX1_becomes : MethodName := ⟨RX1, "becomes", "(LCreditBroker$World;)LCreditBroker$World;"⟩
def dkwX1_becomes_7 : List UInt8 := [180, 0, 31, 181, 0, 31, 42, 176]
abbrev dktX1_becomes_7 : List UInt8 := dkwX1_becomes_7 ++ []
def dkwX1_becomes_6 : List UInt8 := [182, 0, 71, 87, 42, 43, 180, 0, 72, 181, 0, 72, 42, 43, 180, 0, 76, 181, 0, 76, 42, 43]
abbrev dktX1_becomes_6 : List UInt8 := dkwX1_becomes_6 ++ dktX1_becomes_7
def dkwX1_becomes_5 : List UInt8 := [87, 167, 255, 221, 42, 180, 0, 21, 43, 180, 0, 21, 182, 0, 67, 87, 42, 180, 0, 27, 43, 180, 0, 27]
abbrev dktX1_becomes_5 : List UInt8 := dkwX1_becomes_5 ++ dktX1_becomes_6
def dkwX1_becomes_4 : List UInt8 := [185, 0, 49, 1, 0, 192, 0, 62, 78, 42, 180, 0, 18, 187, 0, 62, 89, 45, 183, 0, 64, 182, 0, 58]
abbrev dktX1_becomes_4 : List UInt8 := dkwX1_becomes_4 ++ dktX1_becomes_5
def dkwX1_becomes_3 : List UInt8 := [87, 167, 255, 221, 43, 180, 0, 18, 182, 0, 39, 77, 44, 185, 0, 43, 1, 0, 153, 0, 32, 44]
abbrev dktX1_becomes_3 : List UInt8 := dkwX1_becomes_3 ++ dktX1_becomes_4
def dkwX1_becomes_2 : List UInt8 := [185, 0, 49, 1, 0, 192, 0, 53, 78, 42, 180, 0, 12, 187, 0, 53, 89, 45, 183, 0, 55, 182, 0, 58]
abbrev dktX1_becomes_2 : List UInt8 := dkwX1_becomes_2 ++ dktX1_becomes_3
def dkwX1_becomes_1 : List UInt8 := [180, 0, 27, 182, 0, 38, 43, 180, 0, 12, 182, 0, 39, 77, 44, 185, 0, 43, 1, 0, 153, 0, 32, 44]
abbrev dktX1_becomes_1 : List UInt8 := dkwX1_becomes_1 ++ dktX1_becomes_2
def dkwX1_becomes_0 : List UInt8 := [42, 180, 0, 12, 182, 0, 35, 42, 180, 0, 18, 182, 0, 35, 42, 180, 0, 21, 182, 0, 35, 42]
abbrev dktX1_becomes_0 : List UInt8 := dkwX1_becomes_0 ++ dktX1_becomes_1
theorem dksX1_becomes_0 : cX1_becomes.data.toList.drop 0 = dktX1_becomes_0 := by decide +kernel
theorem dksX1_becomes_1 : cX1_becomes.data.toList.drop 22 = dktX1_becomes_1 := dk_seg dksX1_becomes_0 22 rfl rfl
theorem dksX1_becomes_2 : cX1_becomes.data.toList.drop 46 = dktX1_becomes_2 := dk_seg dksX1_becomes_1 24 rfl rfl
theorem dksX1_becomes_3 : cX1_becomes.data.toList.drop 70 = dktX1_becomes_3 := dk_seg dksX1_becomes_2 24 rfl rfl
theorem dksX1_becomes_4 : cX1_becomes.data.toList.drop 92 = dktX1_becomes_4 := dk_seg dksX1_becomes_3 22 rfl rfl
theorem dksX1_becomes_5 : cX1_becomes.data.toList.drop 116 = dktX1_becomes_5 := dk_seg dksX1_becomes_4 24 rfl rfl
theorem dksX1_becomes_6 : cX1_becomes.data.toList.drop 140 = dktX1_becomes_6 := dk_seg dksX1_becomes_5 24 rfl rfl
theorem dksX1_becomes_7 : cX1_becomes.data.toList.drop 162 = dktX1_becomes_7 := dk_seg dksX1_becomes_6 22 rfl rfl
theorem dX1_becomes_0 : decode cX1_becomes 0 = .ok (.aload_n 0, 1) := dk_42 (dk_at dksX1_becomes_0 0 rfl rfl)
theorem dX1_becomes_1 : decode cX1_becomes 1 = .ok (.getfield 12, 3) := dk_180 0 12 (dk_at dksX1_becomes_0 1 rfl rfl)
theorem dX1_becomes_4 : decode cX1_becomes 4 = .ok (.invokevirtual 35, 3) := dk_182 0 35 (dk_at dksX1_becomes_0 4 rfl rfl)
theorem dX1_becomes_7 : decode cX1_becomes 7 = .ok (.aload_n 0, 1) := dk_42 (dk_at dksX1_becomes_0 7 rfl rfl)
theorem dX1_becomes_8 : decode cX1_becomes 8 = .ok (.getfield 18, 3) := dk_180 0 18 (dk_at dksX1_becomes_0 8 rfl rfl)
theorem dX1_becomes_11 : decode cX1_becomes 11 = .ok (.invokevirtual 35, 3) := dk_182 0 35 (dk_at dksX1_becomes_0 11 rfl rfl)
theorem dX1_becomes_14 : decode cX1_becomes 14 = .ok (.aload_n 0, 1) := dk_42 (dk_at dksX1_becomes_0 14 rfl rfl)
theorem dX1_becomes_15 : decode cX1_becomes 15 = .ok (.getfield 21, 3) := dk_180 0 21 (dk_at dksX1_becomes_0 15 rfl rfl)
theorem dX1_becomes_18 : decode cX1_becomes 18 = .ok (.invokevirtual 35, 3) := dk_182 0 35 (dk_at dksX1_becomes_0 18 rfl rfl)
theorem dX1_becomes_21 : decode cX1_becomes 21 = .ok (.aload_n 0, 1) := dk_42 (dk_at dksX1_becomes_0 21 rfl rfl)
theorem dX1_becomes_22 : decode cX1_becomes 22 = .ok (.getfield 27, 3) := dk_180 0 27 (dk_at dksX1_becomes_1 0 rfl rfl)
theorem dX1_becomes_25 : decode cX1_becomes 25 = .ok (.invokevirtual 38, 3) := dk_182 0 38 (dk_at dksX1_becomes_1 3 rfl rfl)
theorem dX1_becomes_28 : decode cX1_becomes 28 = .ok (.aload_n 1, 1) := dk_43 (dk_at dksX1_becomes_1 6 rfl rfl)
theorem dX1_becomes_29 : decode cX1_becomes 29 = .ok (.getfield 12, 3) := dk_180 0 12 (dk_at dksX1_becomes_1 7 rfl rfl)
theorem dX1_becomes_32 : decode cX1_becomes 32 = .ok (.invokevirtual 39, 3) := dk_182 0 39 (dk_at dksX1_becomes_1 10 rfl rfl)
theorem dX1_becomes_35 : decode cX1_becomes 35 = .ok (.astore_n 2, 1) := dk_77 (dk_at dksX1_becomes_1 13 rfl rfl)
theorem dX1_becomes_36 : decode cX1_becomes 36 = .ok (.aload_n 2, 1) := dk_44 (dk_at dksX1_becomes_1 14 rfl rfl)
theorem dX1_becomes_37 : decode cX1_becomes 37 = .ok (.invokeinterface 43 1, 5) := by decide +kernel
theorem dX1_becomes_42 : decode cX1_becomes 42 = .ok (.ifCond .eq 32, 3) := dk_153 0 32 (dk_at dksX1_becomes_1 20 rfl rfl)
theorem dX1_becomes_45 : decode cX1_becomes 45 = .ok (.aload_n 2, 1) := dk_44 (dk_at dksX1_becomes_1 23 rfl rfl)
theorem dX1_becomes_46 : decode cX1_becomes 46 = .ok (.invokeinterface 49 1, 5) := by decide +kernel
theorem dX1_becomes_51 : decode cX1_becomes 51 = .ok (.checkcast 53, 3) := dk_192 0 53 (dk_at dksX1_becomes_2 5 rfl rfl)
theorem dX1_becomes_54 : decode cX1_becomes 54 = .ok (.astore_n 3, 1) := dk_78 (dk_at dksX1_becomes_2 8 rfl rfl)
theorem dX1_becomes_55 : decode cX1_becomes 55 = .ok (.aload_n 0, 1) := dk_42 (dk_at dksX1_becomes_2 9 rfl rfl)
theorem dX1_becomes_56 : decode cX1_becomes 56 = .ok (.getfield 12, 3) := dk_180 0 12 (dk_at dksX1_becomes_2 10 rfl rfl)
theorem dX1_becomes_59 : decode cX1_becomes 59 = .ok (.new 53, 3) := dk_187 0 53 (dk_at dksX1_becomes_2 13 rfl rfl)
theorem dX1_becomes_62 : decode cX1_becomes 62 = .ok (.dup, 1) := dk_89 (dk_at dksX1_becomes_2 16 rfl rfl)
theorem dX1_becomes_63 : decode cX1_becomes 63 = .ok (.aload_n 3, 1) := dk_45 (dk_at dksX1_becomes_2 17 rfl rfl)
theorem dX1_becomes_64 : decode cX1_becomes 64 = .ok (.invokespecial 55, 3) := dk_183 0 55 (dk_at dksX1_becomes_2 18 rfl rfl)
theorem dX1_becomes_67 : decode cX1_becomes 67 = .ok (.invokevirtual 58, 3) := dk_182 0 58 (dk_at dksX1_becomes_2 21 rfl rfl)
theorem dX1_becomes_70 : decode cX1_becomes 70 = .ok (.pop, 1) := dk_87 (dk_at dksX1_becomes_3 0 rfl rfl)
theorem dX1_becomes_71 : decode cX1_becomes 71 = .ok (.goto (-35), 3) := dk_167 255 221 (dk_at dksX1_becomes_3 1 rfl rfl)
theorem dX1_becomes_74 : decode cX1_becomes 74 = .ok (.aload_n 1, 1) := dk_43 (dk_at dksX1_becomes_3 4 rfl rfl)
theorem dX1_becomes_75 : decode cX1_becomes 75 = .ok (.getfield 18, 3) := dk_180 0 18 (dk_at dksX1_becomes_3 5 rfl rfl)
theorem dX1_becomes_78 : decode cX1_becomes 78 = .ok (.invokevirtual 39, 3) := dk_182 0 39 (dk_at dksX1_becomes_3 8 rfl rfl)
theorem dX1_becomes_81 : decode cX1_becomes 81 = .ok (.astore_n 2, 1) := dk_77 (dk_at dksX1_becomes_3 11 rfl rfl)
theorem dX1_becomes_82 : decode cX1_becomes 82 = .ok (.aload_n 2, 1) := dk_44 (dk_at dksX1_becomes_3 12 rfl rfl)
theorem dX1_becomes_83 : decode cX1_becomes 83 = .ok (.invokeinterface 43 1, 5) := by decide +kernel
theorem dX1_becomes_88 : decode cX1_becomes 88 = .ok (.ifCond .eq 32, 3) := dk_153 0 32 (dk_at dksX1_becomes_3 18 rfl rfl)
theorem dX1_becomes_91 : decode cX1_becomes 91 = .ok (.aload_n 2, 1) := dk_44 (dk_at dksX1_becomes_3 21 rfl rfl)
theorem dX1_becomes_92 : decode cX1_becomes 92 = .ok (.invokeinterface 49 1, 5) := by decide +kernel
theorem dX1_becomes_97 : decode cX1_becomes 97 = .ok (.checkcast 62, 3) := dk_192 0 62 (dk_at dksX1_becomes_4 5 rfl rfl)
theorem dX1_becomes_100 : decode cX1_becomes 100 = .ok (.astore_n 3, 1) := dk_78 (dk_at dksX1_becomes_4 8 rfl rfl)
theorem dX1_becomes_101 : decode cX1_becomes 101 = .ok (.aload_n 0, 1) := dk_42 (dk_at dksX1_becomes_4 9 rfl rfl)
theorem dX1_becomes_102 : decode cX1_becomes 102 = .ok (.getfield 18, 3) := dk_180 0 18 (dk_at dksX1_becomes_4 10 rfl rfl)
theorem dX1_becomes_105 : decode cX1_becomes 105 = .ok (.new 62, 3) := dk_187 0 62 (dk_at dksX1_becomes_4 13 rfl rfl)
theorem dX1_becomes_108 : decode cX1_becomes 108 = .ok (.dup, 1) := dk_89 (dk_at dksX1_becomes_4 16 rfl rfl)
theorem dX1_becomes_109 : decode cX1_becomes 109 = .ok (.aload_n 3, 1) := dk_45 (dk_at dksX1_becomes_4 17 rfl rfl)
theorem dX1_becomes_110 : decode cX1_becomes 110 = .ok (.invokespecial 64, 3) := dk_183 0 64 (dk_at dksX1_becomes_4 18 rfl rfl)
theorem dX1_becomes_113 : decode cX1_becomes 113 = .ok (.invokevirtual 58, 3) := dk_182 0 58 (dk_at dksX1_becomes_4 21 rfl rfl)
theorem dX1_becomes_116 : decode cX1_becomes 116 = .ok (.pop, 1) := dk_87 (dk_at dksX1_becomes_5 0 rfl rfl)
theorem dX1_becomes_117 : decode cX1_becomes 117 = .ok (.goto (-35), 3) := dk_167 255 221 (dk_at dksX1_becomes_5 1 rfl rfl)
theorem dX1_becomes_120 : decode cX1_becomes 120 = .ok (.aload_n 0, 1) := dk_42 (dk_at dksX1_becomes_5 4 rfl rfl)
theorem dX1_becomes_121 : decode cX1_becomes 121 = .ok (.getfield 21, 3) := dk_180 0 21 (dk_at dksX1_becomes_5 5 rfl rfl)
theorem dX1_becomes_124 : decode cX1_becomes 124 = .ok (.aload_n 1, 1) := dk_43 (dk_at dksX1_becomes_5 8 rfl rfl)
theorem dX1_becomes_125 : decode cX1_becomes 125 = .ok (.getfield 21, 3) := dk_180 0 21 (dk_at dksX1_becomes_5 9 rfl rfl)
theorem dX1_becomes_128 : decode cX1_becomes 128 = .ok (.invokevirtual 67, 3) := dk_182 0 67 (dk_at dksX1_becomes_5 12 rfl rfl)
theorem dX1_becomes_131 : decode cX1_becomes 131 = .ok (.pop, 1) := dk_87 (dk_at dksX1_becomes_5 15 rfl rfl)
theorem dX1_becomes_132 : decode cX1_becomes 132 = .ok (.aload_n 0, 1) := dk_42 (dk_at dksX1_becomes_5 16 rfl rfl)
theorem dX1_becomes_133 : decode cX1_becomes 133 = .ok (.getfield 27, 3) := dk_180 0 27 (dk_at dksX1_becomes_5 17 rfl rfl)
theorem dX1_becomes_136 : decode cX1_becomes 136 = .ok (.aload_n 1, 1) := dk_43 (dk_at dksX1_becomes_5 20 rfl rfl)
theorem dX1_becomes_137 : decode cX1_becomes 137 = .ok (.getfield 27, 3) := dk_180 0 27 (dk_at dksX1_becomes_5 21 rfl rfl)
theorem dX1_becomes_140 : decode cX1_becomes 140 = .ok (.invokevirtual 71, 3) := dk_182 0 71 (dk_at dksX1_becomes_6 0 rfl rfl)
theorem dX1_becomes_143 : decode cX1_becomes 143 = .ok (.pop, 1) := dk_87 (dk_at dksX1_becomes_6 3 rfl rfl)
theorem dX1_becomes_144 : decode cX1_becomes 144 = .ok (.aload_n 0, 1) := dk_42 (dk_at dksX1_becomes_6 4 rfl rfl)
theorem dX1_becomes_145 : decode cX1_becomes 145 = .ok (.aload_n 1, 1) := dk_43 (dk_at dksX1_becomes_6 5 rfl rfl)
theorem dX1_becomes_146 : decode cX1_becomes 146 = .ok (.getfield 72, 3) := dk_180 0 72 (dk_at dksX1_becomes_6 6 rfl rfl)
theorem dX1_becomes_149 : decode cX1_becomes 149 = .ok (.putfield 72, 3) := dk_181 0 72 (dk_at dksX1_becomes_6 9 rfl rfl)
theorem dX1_becomes_152 : decode cX1_becomes 152 = .ok (.aload_n 0, 1) := dk_42 (dk_at dksX1_becomes_6 12 rfl rfl)
theorem dX1_becomes_153 : decode cX1_becomes 153 = .ok (.aload_n 1, 1) := dk_43 (dk_at dksX1_becomes_6 13 rfl rfl)
theorem dX1_becomes_154 : decode cX1_becomes 154 = .ok (.getfield 76, 3) := dk_180 0 76 (dk_at dksX1_becomes_6 14 rfl rfl)
theorem dX1_becomes_157 : decode cX1_becomes 157 = .ok (.putfield 76, 3) := dk_181 0 76 (dk_at dksX1_becomes_6 17 rfl rfl)
theorem dX1_becomes_160 : decode cX1_becomes 160 = .ok (.aload_n 0, 1) := dk_42 (dk_at dksX1_becomes_6 20 rfl rfl)
theorem dX1_becomes_161 : decode cX1_becomes 161 = .ok (.aload_n 1, 1) := dk_43 (dk_at dksX1_becomes_6 21 rfl rfl)
theorem dX1_becomes_162 : decode cX1_becomes 162 = .ok (.getfield 31, 3) := dk_180 0 31 (dk_at dksX1_becomes_7 0 rfl rfl)
theorem dX1_becomes_165 : decode cX1_becomes 165 = .ok (.putfield 31, 3) := dk_181 0 31 (dk_at dksX1_becomes_7 3 rfl rfl)
theorem dX1_becomes_168 : decode cX1_becomes 168 = .ok (.aload_n 0, 1) := dk_42 (dk_at dksX1_becomes_7 6 rfl rfl)
theorem dX1_becomes_169 : decode cX1_becomes 169 = .ok (.areturn, 1) := dk_176 (dk_at dksX1_becomes_7 7 rfl rfl)
abbrev cX1_day : ByteArray := prog_22_method_20_code
def yX1_day : MethodName := ⟨RX1, "day", "()Z"⟩
def dkwX1_day_0 : List UInt8 := [42, 182, 1, 43, 60, 42, 182, 1, 46, 87, 27, 172]
abbrev dktX1_day_0 : List UInt8 := dkwX1_day_0 ++ []
theorem dksX1_day_0 : cX1_day.data.toList.drop 0 = dktX1_day_0 := by decide +kernel
theorem dX1_day_0 : decode cX1_day 0 = .ok (.aload_n 0, 1) := dk_42 (dk_at dksX1_day_0 0 rfl rfl)
theorem dX1_day_1 : decode cX1_day 1 = .ok (.invokevirtual 299, 3) := dk_182 1 43 (dk_at dksX1_day_0 1 rfl rfl)
theorem dX1_day_4 : decode cX1_day 4 = .ok (.istore_n 1, 1) := dk_60 (dk_at dksX1_day_0 4 rfl rfl)
theorem dX1_day_5 : decode cX1_day 5 = .ok (.aload_n 0, 1) := dk_42 (dk_at dksX1_day_0 5 rfl rfl)
theorem dX1_day_6 : decode cX1_day 6 = .ok (.invokevirtual 302, 3) := dk_182 1 46 (dk_at dksX1_day_0 6 rfl rfl)
theorem dX1_day_9 : decode cX1_day 9 = .ok (.pop, 1) := dk_87 (dk_at dksX1_day_0 9 rfl rfl)
theorem dX1_day_10 : decode cX1_day 10 = .ok (.iload_n 1, 1) := dk_27 (dk_at dksX1_day_0 10 rfl rfl)
theorem dX1_day_11 : decode cX1_day 11 = .ok (.ireturn, 1) := dk_172 (dk_at dksX1_day_0 11 rfl rfl)
abbrev cX1_acts : ByteArray := prog_22_method_19_code
def yX1_acts : MethodName := ⟨RX1, "acts", "()Z"⟩
def dkwX1_acts_7 : List UInt8 := [167, 0, 4, 3, 172]
abbrev dktX1_acts_7 : List UInt8 := dkwX1_acts_7 ++ []
def dkwX1_acts_6 : List UInt8 := [182, 1, 32, 154, 0, 24, 42, 27, 8, 160, 0, 7, 4, 167, 0, 4, 3, 182, 1, 39, 153, 0, 7, 4]
abbrev dktX1_acts_6 : List UInt8 := dkwX1_acts_6 ++ dktX1_acts_7
def dkwX1_acts_5 : List UInt8 := [182, 0, 79, 192, 0, 53, 182, 1, 35, 2, 159, 0, 7, 4, 167, 0, 4, 3, 172, 42, 180, 0, 18]
abbrev dktX1_acts_5 : List UInt8 := dkwX1_acts_5 ++ dktX1_acts_6
def dkwX1_acts_4 : List UInt8 := [182, 1, 32, 154, 0, 36, 42, 42, 180, 0, 12, 42, 42, 180, 0, 12, 182, 0, 89, 182, 1, 9]
abbrev dktX1_acts_4 : List UInt8 := dkwX1_acts_4 ++ dktX1_acts_5
def dkwX1_acts_3 : List UInt8 := [89, 5, 42, 16, 100, 182, 1, 9, 79, 182, 1, 28, 87, 28, 172, 27, 7, 162, 0, 48, 42, 180, 0, 12]
abbrev dktX1_acts_3 : List UInt8 := dkwX1_acts_3 ++ dktX1_acts_4
def dkwX1_acts_2 : List UInt8 := [182, 1, 9, 62, 42, 7, 182, 1, 9, 54, 4, 42, 6, 188, 10, 89, 3, 29, 79, 89, 4, 21, 4, 79]
abbrev dktX1_acts_2 : List UInt8 := dkwX1_acts_2 ++ dktX1_acts_3
def dkwX1_acts_1 : List UInt8 := [182, 0, 89, 17, 1, 44, 162, 0, 7, 4, 167, 0, 4, 3, 61, 28, 153, 0, 43, 42, 16, 8]
abbrev dktX1_acts_1 : List UInt8 := dkwX1_acts_1 ++ dktX1_acts_2
def dkwX1_acts_0 : List UInt8 := [42, 16, 6, 182, 1, 9, 60, 27, 5, 162, 0, 75, 42, 180, 0, 72, 198, 0, 20, 42, 180, 0, 21]
abbrev dktX1_acts_0 : List UInt8 := dkwX1_acts_0 ++ dktX1_acts_1
theorem dksX1_acts_0 : cX1_acts.data.toList.drop 0 = dktX1_acts_0 := by decide +kernel
theorem dksX1_acts_1 : cX1_acts.data.toList.drop 23 = dktX1_acts_1 := dk_seg dksX1_acts_0 23 rfl rfl
theorem dksX1_acts_2 : cX1_acts.data.toList.drop 45 = dktX1_acts_2 := dk_seg dksX1_acts_1 22 rfl rfl
theorem dksX1_acts_3 : cX1_acts.data.toList.drop 69 = dktX1_acts_3 := dk_seg dksX1_acts_2 24 rfl rfl
theorem dksX1_acts_4 : cX1_acts.data.toList.drop 93 = dktX1_acts_4 := dk_seg dksX1_acts_3 24 rfl rfl
theorem dksX1_acts_5 : cX1_acts.data.toList.drop 115 = dktX1_acts_5 := dk_seg dksX1_acts_4 22 rfl rfl
theorem dksX1_acts_6 : cX1_acts.data.toList.drop 138 = dktX1_acts_6 := dk_seg dksX1_acts_5 23 rfl rfl
theorem dksX1_acts_7 : cX1_acts.data.toList.drop 162 = dktX1_acts_7 := dk_seg dksX1_acts_6 24 rfl rfl
theorem dX1_acts_0 : decode cX1_acts 0 = .ok (.aload_n 0, 1) := dk_42 (dk_at dksX1_acts_0 0 rfl rfl)
theorem dX1_acts_1 : decode cX1_acts 1 = .ok (.bipush 6, 2) := dk_16 6 (dk_at dksX1_acts_0 1 rfl rfl)
theorem dX1_acts_3 : decode cX1_acts 3 = .ok (.invokevirtual 265, 3) := dk_182 1 9 (dk_at dksX1_acts_0 3 rfl rfl)
theorem dX1_acts_6 : decode cX1_acts 6 = .ok (.istore_n 1, 1) := dk_60 (dk_at dksX1_acts_0 6 rfl rfl)
theorem dX1_acts_7 : decode cX1_acts 7 = .ok (.iload_n 1, 1) := dk_27 (dk_at dksX1_acts_0 7 rfl rfl)
theorem dX1_acts_8 : decode cX1_acts 8 = .ok (.iconst 2, 1) := dk_5 (dk_at dksX1_acts_0 8 rfl rfl)
theorem dX1_acts_9 : decode cX1_acts 9 = .ok (.if_icmp .ge 75, 3) := dk_162 0 75 (dk_at dksX1_acts_0 9 rfl rfl)
theorem dX1_acts_12 : decode cX1_acts 12 = .ok (.aload_n 0, 1) := dk_42 (dk_at dksX1_acts_0 12 rfl rfl)
theorem dX1_acts_13 : decode cX1_acts 13 = .ok (.getfield 72, 3) := dk_180 0 72 (dk_at dksX1_acts_0 13 rfl rfl)
theorem dX1_acts_16 : decode cX1_acts 16 = .ok (.ifnull 20, 3) := dk_198 0 20 (dk_at dksX1_acts_0 16 rfl rfl)
theorem dX1_acts_19 : decode cX1_acts 19 = .ok (.aload_n 0, 1) := dk_42 (dk_at dksX1_acts_0 19 rfl rfl)
theorem dX1_acts_20 : decode cX1_acts 20 = .ok (.getfield 21, 3) := dk_180 0 21 (dk_at dksX1_acts_0 20 rfl rfl)
theorem dX1_acts_23 : decode cX1_acts 23 = .ok (.invokevirtual 89, 3) := dk_182 0 89 (dk_at dksX1_acts_1 0 rfl rfl)
theorem dX1_acts_26 : decode cX1_acts 26 = .ok (.sipush 300, 3) := dk_17 1 44 (dk_at dksX1_acts_1 3 rfl rfl)
theorem dX1_acts_29 : decode cX1_acts 29 = .ok (.if_icmp .ge 7, 3) := dk_162 0 7 (dk_at dksX1_acts_1 6 rfl rfl)
theorem dX1_acts_32 : decode cX1_acts 32 = .ok (.iconst 1, 1) := dk_4 (dk_at dksX1_acts_1 9 rfl rfl)
theorem dX1_acts_33 : decode cX1_acts 33 = .ok (.goto 4, 3) := dk_167 0 4 (dk_at dksX1_acts_1 10 rfl rfl)
theorem dX1_acts_36 : decode cX1_acts 36 = .ok (.iconst 0, 1) := dk_3 (dk_at dksX1_acts_1 13 rfl rfl)
theorem dX1_acts_37 : decode cX1_acts 37 = .ok (.istore_n 2, 1) := dk_61 (dk_at dksX1_acts_1 14 rfl rfl)
theorem dX1_acts_38 : decode cX1_acts 38 = .ok (.iload_n 2, 1) := dk_28 (dk_at dksX1_acts_1 15 rfl rfl)
theorem dX1_acts_39 : decode cX1_acts 39 = .ok (.ifCond .eq 43, 3) := dk_153 0 43 (dk_at dksX1_acts_1 16 rfl rfl)
theorem dX1_acts_42 : decode cX1_acts 42 = .ok (.aload_n 0, 1) := dk_42 (dk_at dksX1_acts_1 19 rfl rfl)
theorem dX1_acts_43 : decode cX1_acts 43 = .ok (.bipush 8, 2) := dk_16 8 (dk_at dksX1_acts_1 20 rfl rfl)
theorem dX1_acts_45 : decode cX1_acts 45 = .ok (.invokevirtual 265, 3) := dk_182 1 9 (dk_at dksX1_acts_2 0 rfl rfl)
theorem dX1_acts_48 : decode cX1_acts 48 = .ok (.istore_n 3, 1) := dk_62 (dk_at dksX1_acts_2 3 rfl rfl)
theorem dX1_acts_49 : decode cX1_acts 49 = .ok (.aload_n 0, 1) := dk_42 (dk_at dksX1_acts_2 4 rfl rfl)
theorem dX1_acts_50 : decode cX1_acts 50 = .ok (.iconst 4, 1) := dk_7 (dk_at dksX1_acts_2 5 rfl rfl)
theorem dX1_acts_51 : decode cX1_acts 51 = .ok (.invokevirtual 265, 3) := dk_182 1 9 (dk_at dksX1_acts_2 6 rfl rfl)
theorem dX1_acts_54 : decode cX1_acts 54 = .ok (.istore 4, 2) := dk_54 4 (dk_at dksX1_acts_2 9 rfl rfl)
theorem dX1_acts_56 : decode cX1_acts 56 = .ok (.aload_n 0, 1) := dk_42 (dk_at dksX1_acts_2 11 rfl rfl)
theorem dX1_acts_57 : decode cX1_acts 57 = .ok (.iconst 3, 1) := dk_6 (dk_at dksX1_acts_2 12 rfl rfl)
theorem dX1_acts_58 : decode cX1_acts 58 = .ok (.newarray .int, 2) := dk_188_10 (dk_at dksX1_acts_2 13 rfl rfl)
theorem dX1_acts_60 : decode cX1_acts 60 = .ok (.dup, 1) := dk_89 (dk_at dksX1_acts_2 15 rfl rfl)
theorem dX1_acts_61 : decode cX1_acts 61 = .ok (.iconst 0, 1) := dk_3 (dk_at dksX1_acts_2 16 rfl rfl)
theorem dX1_acts_62 : decode cX1_acts 62 = .ok (.iload_n 3, 1) := dk_29 (dk_at dksX1_acts_2 17 rfl rfl)
theorem dX1_acts_63 : decode cX1_acts 63 = .ok (.iastore, 1) := dk_79 (dk_at dksX1_acts_2 18 rfl rfl)
theorem dX1_acts_64 : decode cX1_acts 64 = .ok (.dup, 1) := dk_89 (dk_at dksX1_acts_2 19 rfl rfl)
theorem dX1_acts_65 : decode cX1_acts 65 = .ok (.iconst 1, 1) := dk_4 (dk_at dksX1_acts_2 20 rfl rfl)
theorem dX1_acts_66 : decode cX1_acts 66 = .ok (.iload 4, 2) := dk_21 4 (dk_at dksX1_acts_2 21 rfl rfl)
theorem dX1_acts_68 : decode cX1_acts 68 = .ok (.iastore, 1) := dk_79 (dk_at dksX1_acts_2 23 rfl rfl)
theorem dX1_acts_69 : decode cX1_acts 69 = .ok (.dup, 1) := dk_89 (dk_at dksX1_acts_3 0 rfl rfl)
theorem dX1_acts_70 : decode cX1_acts 70 = .ok (.iconst 2, 1) := dk_5 (dk_at dksX1_acts_3 1 rfl rfl)
theorem dX1_acts_71 : decode cX1_acts 71 = .ok (.aload_n 0, 1) := dk_42 (dk_at dksX1_acts_3 2 rfl rfl)
theorem dX1_acts_72 : decode cX1_acts 72 = .ok (.bipush 100, 2) := dk_16 100 (dk_at dksX1_acts_3 3 rfl rfl)
theorem dX1_acts_74 : decode cX1_acts 74 = .ok (.invokevirtual 265, 3) := dk_182 1 9 (dk_at dksX1_acts_3 5 rfl rfl)
theorem dX1_acts_77 : decode cX1_acts 77 = .ok (.iastore, 1) := dk_79 (dk_at dksX1_acts_3 8 rfl rfl)
theorem dX1_acts_78 : decode cX1_acts 78 = .ok (.invokevirtual 284, 3) := dk_182 1 28 (dk_at dksX1_acts_3 9 rfl rfl)
theorem dX1_acts_81 : decode cX1_acts 81 = .ok (.pop, 1) := dk_87 (dk_at dksX1_acts_3 12 rfl rfl)
theorem dX1_acts_82 : decode cX1_acts 82 = .ok (.iload_n 2, 1) := dk_28 (dk_at dksX1_acts_3 13 rfl rfl)
theorem dX1_acts_83 : decode cX1_acts 83 = .ok (.ireturn, 1) := dk_172 (dk_at dksX1_acts_3 14 rfl rfl)
theorem dX1_acts_84 : decode cX1_acts 84 = .ok (.iload_n 1, 1) := dk_27 (dk_at dksX1_acts_3 15 rfl rfl)
theorem dX1_acts_85 : decode cX1_acts 85 = .ok (.iconst 4, 1) := dk_7 (dk_at dksX1_acts_3 16 rfl rfl)
theorem dX1_acts_86 : decode cX1_acts 86 = .ok (.if_icmp .ge 48, 3) := dk_162 0 48 (dk_at dksX1_acts_3 17 rfl rfl)
theorem dX1_acts_89 : decode cX1_acts 89 = .ok (.aload_n 0, 1) := dk_42 (dk_at dksX1_acts_3 20 rfl rfl)
theorem dX1_acts_90 : decode cX1_acts 90 = .ok (.getfield 12, 3) := dk_180 0 12 (dk_at dksX1_acts_3 21 rfl rfl)
theorem dX1_acts_93 : decode cX1_acts 93 = .ok (.invokevirtual 288, 3) := dk_182 1 32 (dk_at dksX1_acts_4 0 rfl rfl)
theorem dX1_acts_96 : decode cX1_acts 96 = .ok (.ifCond .ne 36, 3) := dk_154 0 36 (dk_at dksX1_acts_4 3 rfl rfl)
theorem dX1_acts_99 : decode cX1_acts 99 = .ok (.aload_n 0, 1) := dk_42 (dk_at dksX1_acts_4 6 rfl rfl)
theorem dX1_acts_100 : decode cX1_acts 100 = .ok (.aload_n 0, 1) := dk_42 (dk_at dksX1_acts_4 7 rfl rfl)
theorem dX1_acts_101 : decode cX1_acts 101 = .ok (.getfield 12, 3) := dk_180 0 12 (dk_at dksX1_acts_4 8 rfl rfl)
theorem dX1_acts_104 : decode cX1_acts 104 = .ok (.aload_n 0, 1) := dk_42 (dk_at dksX1_acts_4 11 rfl rfl)
theorem dX1_acts_105 : decode cX1_acts 105 = .ok (.aload_n 0, 1) := dk_42 (dk_at dksX1_acts_4 12 rfl rfl)
theorem dX1_acts_106 : decode cX1_acts 106 = .ok (.getfield 12, 3) := dk_180 0 12 (dk_at dksX1_acts_4 13 rfl rfl)
theorem dX1_acts_109 : decode cX1_acts 109 = .ok (.invokevirtual 89, 3) := dk_182 0 89 (dk_at dksX1_acts_4 16 rfl rfl)
theorem dX1_acts_112 : decode cX1_acts 112 = .ok (.invokevirtual 265, 3) := dk_182 1 9 (dk_at dksX1_acts_4 19 rfl rfl)
theorem dX1_acts_115 : decode cX1_acts 115 = .ok (.invokevirtual 79, 3) := dk_182 0 79 (dk_at dksX1_acts_5 0 rfl rfl)
theorem dX1_acts_118 : decode cX1_acts 118 = .ok (.checkcast 53, 3) := dk_192 0 53 (dk_at dksX1_acts_5 3 rfl rfl)
theorem dX1_acts_121 : decode cX1_acts 121 = .ok (.invokevirtual 291, 3) := dk_182 1 35 (dk_at dksX1_acts_5 6 rfl rfl)
theorem dX1_acts_124 : decode cX1_acts 124 = .ok (.iconst (-1), 1) := dk_2 (dk_at dksX1_acts_5 9 rfl rfl)
theorem dX1_acts_125 : decode cX1_acts 125 = .ok (.if_icmp .eq 7, 3) := dk_159 0 7 (dk_at dksX1_acts_5 10 rfl rfl)
theorem dX1_acts_128 : decode cX1_acts 128 = .ok (.iconst 1, 1) := dk_4 (dk_at dksX1_acts_5 13 rfl rfl)
theorem dX1_acts_129 : decode cX1_acts 129 = .ok (.goto 4, 3) := dk_167 0 4 (dk_at dksX1_acts_5 14 rfl rfl)
theorem dX1_acts_132 : decode cX1_acts 132 = .ok (.iconst 0, 1) := dk_3 (dk_at dksX1_acts_5 17 rfl rfl)
theorem dX1_acts_133 : decode cX1_acts 133 = .ok (.ireturn, 1) := dk_172 (dk_at dksX1_acts_5 18 rfl rfl)
theorem dX1_acts_134 : decode cX1_acts 134 = .ok (.aload_n 0, 1) := dk_42 (dk_at dksX1_acts_5 19 rfl rfl)
theorem dX1_acts_135 : decode cX1_acts 135 = .ok (.getfield 18, 3) := dk_180 0 18 (dk_at dksX1_acts_5 20 rfl rfl)
theorem dX1_acts_138 : decode cX1_acts 138 = .ok (.invokevirtual 288, 3) := dk_182 1 32 (dk_at dksX1_acts_6 0 rfl rfl)
theorem dX1_acts_141 : decode cX1_acts 141 = .ok (.ifCond .ne 24, 3) := dk_154 0 24 (dk_at dksX1_acts_6 3 rfl rfl)
theorem dX1_acts_144 : decode cX1_acts 144 = .ok (.aload_n 0, 1) := dk_42 (dk_at dksX1_acts_6 6 rfl rfl)
theorem dX1_acts_145 : decode cX1_acts 145 = .ok (.iload_n 1, 1) := dk_27 (dk_at dksX1_acts_6 7 rfl rfl)
theorem dX1_acts_146 : decode cX1_acts 146 = .ok (.iconst 5, 1) := dk_8 (dk_at dksX1_acts_6 8 rfl rfl)
theorem dX1_acts_147 : decode cX1_acts 147 = .ok (.if_icmp .ne 7, 3) := dk_160 0 7 (dk_at dksX1_acts_6 9 rfl rfl)
theorem dX1_acts_150 : decode cX1_acts 150 = .ok (.iconst 1, 1) := dk_4 (dk_at dksX1_acts_6 12 rfl rfl)
theorem dX1_acts_151 : decode cX1_acts 151 = .ok (.goto 4, 3) := dk_167 0 4 (dk_at dksX1_acts_6 13 rfl rfl)
theorem dX1_acts_154 : decode cX1_acts 154 = .ok (.iconst 0, 1) := dk_3 (dk_at dksX1_acts_6 16 rfl rfl)
theorem dX1_acts_155 : decode cX1_acts 155 = .ok (.invokevirtual 295, 3) := dk_182 1 39 (dk_at dksX1_acts_6 17 rfl rfl)
theorem dX1_acts_158 : decode cX1_acts 158 = .ok (.ifCond .eq 7, 3) := dk_153 0 7 (dk_at dksX1_acts_6 20 rfl rfl)
theorem dX1_acts_161 : decode cX1_acts 161 = .ok (.iconst 1, 1) := dk_4 (dk_at dksX1_acts_6 23 rfl rfl)
theorem dX1_acts_162 : decode cX1_acts 162 = .ok (.goto 4, 3) := dk_167 0 4 (dk_at dksX1_acts_7 0 rfl rfl)
theorem dX1_acts_165 : decode cX1_acts 165 = .ok (.iconst 0, 1) := dk_3 (dk_at dksX1_acts_7 3 rfl rfl)
theorem dX1_acts_166 : decode cX1_acts 166 = .ok (.ireturn, 1) := dk_172 (dk_at dksX1_acts_7 4 rfl rfl)
abbrev cX1_draw : ByteArray := prog_22_method_17_code
def yX1_draw : MethodName := ⟨RX1, "draw", "(I)I"⟩
def dkwX1_draw_1 : List UInt8 := [112, 172]
abbrev dktX1_draw_1 : List UInt8 := dkwX1_draw_1 ++ []
def dkwX1_draw_0 : List UInt8 := [42, 42, 180, 0, 31, 19, 1, 8, 104, 17, 48, 57, 96, 181, 0, 31, 42, 180, 0, 31, 16, 16, 124, 27]
abbrev dktX1_draw_0 : List UInt8 := dkwX1_draw_0 ++ dktX1_draw_1
theorem dksX1_draw_0 : cX1_draw.data.toList.drop 0 = dktX1_draw_0 := by decide +kernel
theorem dksX1_draw_1 : cX1_draw.data.toList.drop 24 = dktX1_draw_1 := dk_seg dksX1_draw_0 24 rfl rfl
theorem dX1_draw_0 : decode cX1_draw 0 = .ok (.aload_n 0, 1) := dk_42 (dk_at dksX1_draw_0 0 rfl rfl)
theorem dX1_draw_1 : decode cX1_draw 1 = .ok (.aload_n 0, 1) := dk_42 (dk_at dksX1_draw_0 1 rfl rfl)
theorem dX1_draw_2 : decode cX1_draw 2 = .ok (.getfield 31, 3) := dk_180 0 31 (dk_at dksX1_draw_0 2 rfl rfl)
theorem dX1_draw_5 : decode cX1_draw 5 = .ok (.ldc_w 264, 3) := dk_19 1 8 (dk_at dksX1_draw_0 5 rfl rfl)
theorem dX1_draw_8 : decode cX1_draw 8 = .ok (.imul, 1) := dk_104 (dk_at dksX1_draw_0 8 rfl rfl)
theorem dX1_draw_9 : decode cX1_draw 9 = .ok (.sipush 12345, 3) := dk_17 48 57 (dk_at dksX1_draw_0 9 rfl rfl)
theorem dX1_draw_12 : decode cX1_draw 12 = .ok (.iadd, 1) := dk_96 (dk_at dksX1_draw_0 12 rfl rfl)
theorem dX1_draw_13 : decode cX1_draw 13 = .ok (.putfield 31, 3) := dk_181 0 31 (dk_at dksX1_draw_0 13 rfl rfl)
theorem dX1_draw_16 : decode cX1_draw 16 = .ok (.aload_n 0, 1) := dk_42 (dk_at dksX1_draw_0 16 rfl rfl)
theorem dX1_draw_17 : decode cX1_draw 17 = .ok (.getfield 31, 3) := dk_180 0 31 (dk_at dksX1_draw_0 17 rfl rfl)
theorem dX1_draw_20 : decode cX1_draw 20 = .ok (.bipush 16, 2) := dk_16 16 (dk_at dksX1_draw_0 20 rfl rfl)
theorem dX1_draw_22 : decode cX1_draw 22 = .ok (.iushr, 1) := dk_124 (dk_at dksX1_draw_0 22 rfl rfl)
theorem dX1_draw_23 : decode cX1_draw 23 = .ok (.iload_n 1, 1) := dk_27 (dk_at dksX1_draw_0 23 rfl rfl)
theorem dX1_draw_24 : decode cX1_draw 24 = .ok (.irem, 1) := dk_112 (dk_at dksX1_draw_1 0 rfl rfl)
theorem dX1_draw_25 : decode cX1_draw 25 = .ok (.ireturn, 1) := dk_172 (dk_at dksX1_draw_1 1 rfl rfl)
abbrev cX1_answers : ByteArray := prog_22_method_18_code
def yX1_answers : MethodName := ⟨RX1, "answers", "(Z)Z"⟩
def dkwX1_answers_2 : List UInt8 := [42, 44, 45, 182, 1, 20, 87, 167, 0, 9, 42, 44, 45, 182, 1, 24, 4, 172]
abbrev dktX1_answers_2 : List UInt8 := dkwX1_answers_2 ++ []
def dkwX1_answers_1 : List UInt8 := [182, 0, 206, 3, 44, 186, 1, 13, 0, 0, 182, 1, 17, 78, 45, 199, 0, 5, 3, 172, 27, 153, 0, 13]
abbrev dktX1_answers_1 : List UInt8 := dkwX1_answers_1 ++ dktX1_answers_2
def dkwX1_answers_0 : List UInt8 := [42, 180, 0, 18, 42, 42, 180, 0, 18, 182, 0, 89, 182, 1, 9, 182, 0, 79, 192, 0, 62, 77, 42, 44]
abbrev dktX1_answers_0 : List UInt8 := dkwX1_answers_0 ++ dktX1_answers_1
theorem dksX1_answers_0 : cX1_answers.data.toList.drop 0 = dktX1_answers_0 := by decide +kernel
theorem dksX1_answers_1 : cX1_answers.data.toList.drop 24 = dktX1_answers_1 := dk_seg dksX1_answers_0 24 rfl rfl
theorem dksX1_answers_2 : cX1_answers.data.toList.drop 48 = dktX1_answers_2 := dk_seg dksX1_answers_1 24 rfl rfl
theorem dX1_answers_0 : decode cX1_answers 0 = .ok (.aload_n 0, 1) := dk_42 (dk_at dksX1_answers_0 0 rfl rfl)
theorem dX1_answers_1 : decode cX1_answers 1 = .ok (.getfield 18, 3) := dk_180 0 18 (dk_at dksX1_answers_0 1 rfl rfl)
theorem dX1_answers_4 : decode cX1_answers 4 = .ok (.aload_n 0, 1) := dk_42 (dk_at dksX1_answers_0 4 rfl rfl)
theorem dX1_answers_5 : decode cX1_answers 5 = .ok (.aload_n 0, 1) := dk_42 (dk_at dksX1_answers_0 5 rfl rfl)
theorem dX1_answers_6 : decode cX1_answers 6 = .ok (.getfield 18, 3) := dk_180 0 18 (dk_at dksX1_answers_0 6 rfl rfl)
theorem dX1_answers_9 : decode cX1_answers 9 = .ok (.invokevirtual 89, 3) := dk_182 0 89 (dk_at dksX1_answers_0 9 rfl rfl)
theorem dX1_answers_12 : decode cX1_answers 12 = .ok (.invokevirtual 265, 3) := dk_182 1 9 (dk_at dksX1_answers_0 12 rfl rfl)
theorem dX1_answers_15 : decode cX1_answers 15 = .ok (.invokevirtual 79, 3) := dk_182 0 79 (dk_at dksX1_answers_0 15 rfl rfl)
theorem dX1_answers_18 : decode cX1_answers 18 = .ok (.checkcast 62, 3) := dk_192 0 62 (dk_at dksX1_answers_0 18 rfl rfl)
theorem dX1_answers_21 : decode cX1_answers 21 = .ok (.astore_n 2, 1) := dk_77 (dk_at dksX1_answers_0 21 rfl rfl)
theorem dX1_answers_22 : decode cX1_answers 22 = .ok (.aload_n 0, 1) := dk_42 (dk_at dksX1_answers_0 22 rfl rfl)
theorem dX1_answers_23 : decode cX1_answers 23 = .ok (.aload_n 2, 1) := dk_44 (dk_at dksX1_answers_0 23 rfl rfl)
theorem dX1_answers_24 : decode cX1_answers 24 = .ok (.invokevirtual 206, 3) := dk_182 0 206 (dk_at dksX1_answers_1 0 rfl rfl)
theorem dX1_answers_27 : decode cX1_answers 27 = .ok (.iconst 0, 1) := dk_3 (dk_at dksX1_answers_1 3 rfl rfl)
theorem dX1_answers_28 : decode cX1_answers 28 = .ok (.aload_n 2, 1) := dk_44 (dk_at dksX1_answers_1 4 rfl rfl)
theorem dX1_answers_29 : decode cX1_answers 29 = .ok (.invokedynamic 269, 5) := by decide +kernel
theorem dX1_answers_34 : decode cX1_answers 34 = .ok (.invokevirtual 273, 3) := dk_182 1 17 (dk_at dksX1_answers_1 10 rfl rfl)
theorem dX1_answers_37 : decode cX1_answers 37 = .ok (.astore_n 3, 1) := dk_78 (dk_at dksX1_answers_1 13 rfl rfl)
theorem dX1_answers_38 : decode cX1_answers 38 = .ok (.aload_n 3, 1) := dk_45 (dk_at dksX1_answers_1 14 rfl rfl)
theorem dX1_answers_39 : decode cX1_answers 39 = .ok (.ifnonnull 5, 3) := dk_199 0 5 (dk_at dksX1_answers_1 15 rfl rfl)
theorem dX1_answers_42 : decode cX1_answers 42 = .ok (.iconst 0, 1) := dk_3 (dk_at dksX1_answers_1 18 rfl rfl)
theorem dX1_answers_43 : decode cX1_answers 43 = .ok (.ireturn, 1) := dk_172 (dk_at dksX1_answers_1 19 rfl rfl)
theorem dX1_answers_44 : decode cX1_answers 44 = .ok (.iload_n 1, 1) := dk_27 (dk_at dksX1_answers_1 20 rfl rfl)
theorem dX1_answers_45 : decode cX1_answers 45 = .ok (.ifCond .eq 13, 3) := dk_153 0 13 (dk_at dksX1_answers_1 21 rfl rfl)
theorem dX1_answers_48 : decode cX1_answers 48 = .ok (.aload_n 0, 1) := dk_42 (dk_at dksX1_answers_2 0 rfl rfl)
theorem dX1_answers_49 : decode cX1_answers 49 = .ok (.aload_n 2, 1) := dk_44 (dk_at dksX1_answers_2 1 rfl rfl)
theorem dX1_answers_50 : decode cX1_answers 50 = .ok (.aload_n 3, 1) := dk_45 (dk_at dksX1_answers_2 2 rfl rfl)
theorem dX1_answers_51 : decode cX1_answers 51 = .ok (.invokevirtual 276, 3) := dk_182 1 20 (dk_at dksX1_answers_2 3 rfl rfl)
theorem dX1_answers_54 : decode cX1_answers 54 = .ok (.pop, 1) := dk_87 (dk_at dksX1_answers_2 6 rfl rfl)
theorem dX1_answers_55 : decode cX1_answers 55 = .ok (.goto 9, 3) := dk_167 0 9 (dk_at dksX1_answers_2 7 rfl rfl)
theorem dX1_answers_58 : decode cX1_answers 58 = .ok (.aload_n 0, 1) := dk_42 (dk_at dksX1_answers_2 10 rfl rfl)
theorem dX1_answers_59 : decode cX1_answers 59 = .ok (.aload_n 2, 1) := dk_44 (dk_at dksX1_answers_2 11 rfl rfl)
theorem dX1_answers_60 : decode cX1_answers 60 = .ok (.aload_n 3, 1) := dk_45 (dk_at dksX1_answers_2 12 rfl rfl)
theorem dX1_answers_61 : decode cX1_answers 61 = .ok (.invokevirtual 280, 3) := dk_182 1 24 (dk_at dksX1_answers_2 13 rfl rfl)
theorem dX1_answers_64 : decode cX1_answers 64 = .ok (.iconst 1, 1) := dk_4 (dk_at dksX1_answers_2 16 rfl rfl)
theorem dX1_answers_65 : decode cX1_answers 65 = .ok (.ireturn, 1) := dk_172 (dk_at dksX1_answers_2 17 rfl rfl)
abbrev cX1_lambda_answers_0 : ByteArray := prog_22_method_21_code
def yX1_lambda_answers_0 : MethodName := ⟨RX1, "lambda$answers$0", "(LCreditBroker$Consumer;LCreditBroker$Letter;)Z"⟩
def dkwX1_lambda_answers_0_0 : List UInt8 := [43, 42, 180, 0, 175, 182, 0, 104, 172]
abbrev dktX1_lambda_answers_0_0 : List UInt8 := dkwX1_lambda_answers_0_0 ++ []
theorem dksX1_lambda_answers_0_0 : cX1_lambda_answers_0.data.toList.drop 0 = dktX1_lambda_answers_0_0 := by decide +kernel
theorem dX1_lambda_answers_0_0 : decode cX1_lambda_answers_0 0 = .ok (.aload_n 1, 1) := dk_43 (dk_at dksX1_lambda_answers_0_0 0 rfl rfl)
theorem dX1_lambda_answers_0_1 : decode cX1_lambda_answers_0 1 = .ok (.aload_n 0, 1) := dk_42 (dk_at dksX1_lambda_answers_0_0 1 rfl rfl)
theorem dX1_lambda_answers_0_2 : decode cX1_lambda_answers_0 2 = .ok (.getfield 175, 3) := dk_180 0 175 (dk_at dksX1_lambda_answers_0_0 2 rfl rfl)
theorem dX1_lambda_answers_0_5 : decode cX1_lambda_answers_0 5 = .ok (.invokevirtual 104, 3) := dk_182 0 104 (dk_at dksX1_lambda_answers_0_0 5 rfl rfl)
theorem dX1_lambda_answers_0_8 : decode cX1_lambda_answers_0 8 = .ok (.ireturn, 1) := dk_172 (dk_at dksX1_lambda_answers_0_0 8 rfl rfl)
theorem q98 : (Jvm.Cond.initialized "CreditBroker$World") ∈ lw_all := lw_g (lw_at lw_m1 2 rfl) rfl
theorem q172 : (Jvm.Cond.instantiable "CreditBroker$World" (7 : Nat)) ∈ lw_all := lw_g (lw_at lw_m1 76 rfl) rfl
theorem q174 : (Jvm.Cond.instanceMethod ({ cls := "CreditBroker$World", name := "<init>", desc := "()V" } : Jvm.MethodName)) ∈ lw_all := lw_g (lw_at lw_m1 78 rfl) rfl
theorem q175 : (Jvm.Cond.code ({ cls := "CreditBroker$World", name := "<init>", desc := "()V" } : Jvm.MethodName) prog_22_method_1_code (1 : Nat) (Option.none : Option Jvm.ClassFile.FieldType)) ∈ lw_all := lw_g (lw_at lw_m1 79 rfl) rfl
theorem q176 : (Jvm.Cond.methodLink "CreditBroker$World" (3 : Nat) ({ cls := "java/lang/Object", name := "<init>", desc := "()V" } : Jvm.MethodName)) ∈ lw_all := lw_g (lw_at lw_m1 80 rfl) rfl
theorem q177 : (Jvm.Cond.classLink "CreditBroker$World" (9 : Nat) "java/util/ArrayList") ∈ lw_all := lw_g (lw_at lw_m1 81 rfl) rfl
theorem q179 : (Jvm.Cond.methodLink "CreditBroker$World" (11 : Nat) ({ cls := "java/util/ArrayList", name := "<init>", desc := "()V" } : Jvm.MethodName)) ∈ lw_all := lw_g (lw_at lw_m1 83 rfl) rfl
theorem q210 : (Jvm.Cond.classLink "CreditBroker$World" (24 : Nat) "java/util/LinkedList") ∈ lw_all := lw_g (lw_at lw_m1 114 rfl) rfl
theorem q212 : (Jvm.Cond.methodLink "CreditBroker$World" (26 : Nat) ({ cls := "java/util/LinkedList", name := "<init>", desc := "()V" } : Jvm.MethodName)) ∈ lw_all := lw_g (lw_at lw_m1 116 rfl) rfl
theorem q231 : (Jvm.Cond.fieldLink "CreditBroker$World" (12 : Nat) "CreditBroker$World" "queues" "Ljava/util/ArrayList;") ∈ lw_all := lw_g (lw_at lw_m1 135 rfl) rfl
theorem q233 : (Jvm.Cond.fieldLink "CreditBroker$World" (18 : Nat) "CreditBroker$World" "consumers" "Ljava/util/ArrayList;") ∈ lw_all := lw_g (lw_at lw_m1 137 rfl) rfl
theorem q235 : (Jvm.Cond.fieldLink "CreditBroker$World" (21 : Nat) "CreditBroker$World" "messages" "Ljava/util/ArrayList;") ∈ lw_all := lw_g (lw_at lw_m1 139 rfl) rfl
theorem q237 : (Jvm.Cond.fieldLink "CreditBroker$World" (27 : Nat) "CreditBroker$World" "dead" "Ljava/util/LinkedList;") ∈ lw_all := lw_g (lw_at lw_m1 141 rfl) rfl
theorem q239 : (Jvm.Cond.fieldLink "CreditBroker$World" (72 : Nat) "CreditBroker$World" "topic" "LCreditBroker$Pattern;") ∈ lw_all := lw_g (lw_at lw_m1 143 rfl) rfl
theorem q241 : (Jvm.Cond.fieldLink "CreditBroker$World" (76 : Nat) "CreditBroker$World" "time" "I") ∈ lw_all := lw_g (lw_at lw_m1 145 rfl) rfl
theorem q243 : (Jvm.Cond.fieldLink "CreditBroker$World" (31 : Nat) "CreditBroker$World" "seed" "I") ∈ lw_all := lw_g (lw_at lw_m1 147 rfl) rfl
theorem q245 : (Jvm.Cond.laysFinal "CreditBroker$World" "CreditBroker$World" "queues" "Ljava/util/ArrayList;") ∈ lw_all := lw_g (lw_at lw_m1 149 rfl) rfl
theorem q246 : (Jvm.Cond.soleField "CreditBroker$World" "queues") ∈ lw_all := lw_g (lw_at lw_m1 150 rfl) rfl
theorem q247 : (Jvm.Cond.laysFinal "CreditBroker$World" "CreditBroker$World" "consumers" "Ljava/util/ArrayList;") ∈ lw_all := lw_g (lw_at lw_m1 151 rfl) rfl
theorem q248 : (Jvm.Cond.soleField "CreditBroker$World" "consumers") ∈ lw_all := lw_g (lw_at lw_m1 152 rfl) rfl
theorem q249 : (Jvm.Cond.laysFinal "CreditBroker$World" "CreditBroker$World" "messages" "Ljava/util/ArrayList;") ∈ lw_all := lw_g (lw_at lw_m1 153 rfl) rfl
theorem q250 : (Jvm.Cond.soleField "CreditBroker$World" "messages") ∈ lw_all := lw_g (lw_at lw_m1 154 rfl) rfl
theorem q251 : (Jvm.Cond.laysFinal "CreditBroker$World" "CreditBroker$World" "dead" "Ljava/util/LinkedList;") ∈ lw_all := lw_g (lw_at lw_m1 155 rfl) rfl
theorem q252 : (Jvm.Cond.soleField "CreditBroker$World" "dead") ∈ lw_all := lw_g (lw_at lw_m1 156 rfl) rfl
theorem q253 : (Jvm.Cond.lays "CreditBroker$World" "CreditBroker$World" "topic" "LCreditBroker$Pattern;") ∈ lw_all := lw_g (lw_at lw_m1 157 rfl) rfl
theorem q254 : (Jvm.Cond.soleField "CreditBroker$World" "topic") ∈ lw_all := lw_g (lw_at lw_m1 158 rfl) rfl
theorem q255 : (Jvm.Cond.lays "CreditBroker$World" "CreditBroker$World" "time" "I") ∈ lw_all := lw_g (lw_at lw_m1 159 rfl) rfl
theorem q256 : (Jvm.Cond.soleField "CreditBroker$World" "time") ∈ lw_all := lw_g (lw_at lw_m1 160 rfl) rfl
theorem q257 : (Jvm.Cond.lays "CreditBroker$World" "CreditBroker$World" "seed" "I") ∈ lw_all := lw_g (lw_at lw_m1 161 rfl) rfl
theorem q258 : (Jvm.Cond.soleField "CreditBroker$World" "seed") ∈ lw_all := lw_g (lw_at lw_m1 162 rfl) rfl
theorem q259 : (Jvm.Cond.superclass "CreditBroker$World" "java/lang/Object") ∈ lw_all := lw_g (lw_at lw_m1 163 rfl) rfl
theorem q1078 : (Jvm.Cond.selects "CreditBroker$World" ({ cls := "java/lang/Object", name := "getClass", desc := "()Ljava/lang/Class;" } : Jvm.MethodName) ({ cls := "java/lang/Object", name := "getClass", desc := "()Ljava/lang/Class;" } : Jvm.MethodName)) ∈ lw_all := lw_g (lw_at lw_m5 22 rfl) rfl
theorem q1151 : (Jvm.Cond.fieldLink "CreditBroker$World" (113 : Nat) "CreditBroker$Queue" "number" "I") ∈ lw_all := lw_g (lw_at lw_m5 95 rfl) rfl
theorem q1154 : (Jvm.Cond.fieldLink "CreditBroker$World" (136 : Nat) "CreditBroker$Queue" "pattern" "LCreditBroker$Pattern;") ∈ lw_all := lw_g (lw_at lw_m5 98 rfl) rfl
theorem q1157 : (Jvm.Cond.fieldLink "CreditBroker$World" (148 : Nat) "CreditBroker$Queue" "limit" "I") ∈ lw_all := lw_g (lw_at lw_m5 101 rfl) rfl
theorem q1159 : (Jvm.Cond.fieldLink "CreditBroker$World" (223 : Nat) "CreditBroker$Queue" "tries" "I") ∈ lw_all := lw_g (lw_at lw_m5 103 rfl) rfl
theorem q1161 : (Jvm.Cond.fieldLink "CreditBroker$World" (186 : Nat) "CreditBroker$Queue" "lease" "I") ∈ lw_all := lw_g (lw_at lw_m5 105 rfl) rfl
theorem q1163 : (Jvm.Cond.fieldLink "CreditBroker$World" (251 : Nat) "CreditBroker$Queue" "age" "I") ∈ lw_all := lw_g (lw_at lw_m5 107 rfl) rfl
theorem q1165 : (Jvm.Cond.fieldLink "CreditBroker$World" (169 : Nat) "CreditBroker$Queue" "isExclusive" "Z") ∈ lw_all := lw_g (lw_at lw_m5 109 rfl) rfl
theorem q1168 : (Jvm.Cond.fieldLink "CreditBroker$World" (86 : Nat) "CreditBroker$Queue" "letters" "Ljava/util/ArrayList;") ∈ lw_all := lw_g (lw_at lw_m5 112 rfl) rfl
theorem q1172 : (Jvm.Cond.fieldLink "CreditBroker$World" (176 : Nat) "CreditBroker$Queue" "latest" "I") ∈ lw_all := lw_g (lw_at lw_m5 116 rfl) rfl
theorem q1174 : (Jvm.Cond.fieldLink "CreditBroker$World" (196 : Nat) "CreditBroker$Queue" "given" "I") ∈ lw_all := lw_g (lw_at lw_m5 118 rfl) rfl
theorem q1177 : (Jvm.Cond.fieldLink "CreditBroker$World" (213 : Nat) "CreditBroker$Queue" "acknowledged" "I") ∈ lw_all := lw_g (lw_at lw_m5 121 rfl) rfl
theorem q1180 : (Jvm.Cond.fieldLink "CreditBroker$World" (125 : Nat) "CreditBroker$Queue" "died" "I") ∈ lw_all := lw_g (lw_at lw_m5 124 rfl) rfl
theorem q1245 : (Jvm.Cond.fieldLink "CreditBroker$World" (175 : Nat) "CreditBroker$Consumer" "number" "I") ∈ lw_all := lw_g (lw_at lw_m5 189 rfl) rfl
theorem q1248 : (Jvm.Cond.fieldLink "CreditBroker$World" (83 : Nat) "CreditBroker$Consumer" "queue" "I") ∈ lw_all := lw_g (lw_at lw_m5 192 rfl) rfl
theorem q1251 : (Jvm.Cond.fieldLink "CreditBroker$World" (172 : Nat) "CreditBroker$Consumer" "credits" "I") ∈ lw_all := lw_g (lw_at lw_m5 195 rfl) rfl
theorem q1254 : (Jvm.Cond.fieldLink "CreditBroker$World" (193 : Nat) "CreditBroker$Consumer" "got" "I") ∈ lw_all := lw_g (lw_at lw_m5 198 rfl) rfl
theorem q1257 : (Jvm.Cond.fieldLink "CreditBroker$World" (161 : Nat) "CreditBroker$Consumer" "isGone" "Z") ∈ lw_all := lw_g (lw_at lw_m5 201 rfl) rfl
theorem q1283 : (Jvm.Cond.instanceMethod ({ cls := "CreditBroker$World", name := "leaves", desc := "(LCreditBroker$Consumer;)I" } : Jvm.MethodName)) ∈ lw_all := lw_g (lw_at lw_m5 227 rfl) rfl
theorem q1284 : (Jvm.Cond.selects "CreditBroker$World" ({ cls := "CreditBroker$World", name := "leaves", desc := "(LCreditBroker$Consumer;)I" } : Jvm.MethodName) ({ cls := "CreditBroker$World", name := "leaves", desc := "(LCreditBroker$Consumer;)I" } : Jvm.MethodName)) ∈ lw_all := lw_g (lw_at lw_m5 228 rfl) rfl
theorem q1285 : (Jvm.Cond.code ({ cls := "CreditBroker$World", name := "leaves", desc := "(LCreditBroker$Consumer;)I" } : Jvm.MethodName) prog_22_method_14_code (5 : Nat) (Option.some Jvm.ClassFile.FieldType.int)) ∈ lw_all := lw_g (lw_at lw_m5 229 rfl) rfl
theorem q1286 : (Jvm.Cond.methodLink "CreditBroker$World" (206 : Nat) ({ cls := "CreditBroker$World", name := "queueOf", desc := "(LCreditBroker$Consumer;)LCreditBroker$Queue;" } : Jvm.MethodName)) ∈ lw_all := lw_g (lw_at lw_m5 230 rfl) rfl
theorem q1287 : (Jvm.Cond.instanceMethod ({ cls := "CreditBroker$World", name := "queueOf", desc := "(LCreditBroker$Consumer;)LCreditBroker$Queue;" } : Jvm.MethodName)) ∈ lw_all := lw_g (lw_at lw_m5 231 rfl) rfl
theorem q1288 : (Jvm.Cond.selects "CreditBroker$World" ({ cls := "CreditBroker$World", name := "queueOf", desc := "(LCreditBroker$Consumer;)LCreditBroker$Queue;" } : Jvm.MethodName) ({ cls := "CreditBroker$World", name := "queueOf", desc := "(LCreditBroker$Consumer;)LCreditBroker$Queue;" } : Jvm.MethodName)) ∈ lw_all := lw_g (lw_at lw_m5 232 rfl) rfl
theorem q1289 : (Jvm.Cond.code ({ cls := "CreditBroker$World", name := "queueOf", desc := "(LCreditBroker$Consumer;)LCreditBroker$Queue;" } : Jvm.MethodName) prog_22_method_10_code (2 : Nat) (Option.some (Jvm.ClassFile.FieldType.object "CreditBroker$Queue"))) ∈ lw_all := lw_g (lw_at lw_m5 233 rfl) rfl
theorem q1290 : (Jvm.Cond.methodLink "CreditBroker$World" (79 : Nat) ({ cls := "java/util/ArrayList", name := "get", desc := "(I)Ljava/lang/Object;" } : Jvm.MethodName)) ∈ lw_all := lw_g (lw_at lw_m5 234 rfl) rfl
theorem q1291 : (Jvm.Cond.classLink "CreditBroker$World" (53 : Nat) "CreditBroker$Queue") ∈ lw_all := lw_g (lw_at lw_m5 235 rfl) rfl
theorem q1292 : (Jvm.Cond.methodLink "CreditBroker$World" (39 : Nat) ({ cls := "java/util/ArrayList", name := "iterator", desc := "()Ljava/util/Iterator;" } : Jvm.MethodName)) ∈ lw_all := lw_g (lw_at lw_m5 236 rfl) rfl
theorem q1317 : (Jvm.Cond.interfaceEntry "CreditBroker$World" (43 : Nat)) ∈ lw_tbl := lw_at lw_m6 21 rfl
theorem q1318 : (Jvm.Cond.methodLink "CreditBroker$World" (43 : Nat) ({ cls := "java/util/Iterator", name := "hasNext", desc := "()Z" } : Jvm.MethodName)) ∈ lw_all := lw_g (lw_at lw_m6 22 rfl) rfl
theorem q1363 : (Jvm.Cond.interfaceEntry "CreditBroker$World" (49 : Nat)) ∈ lw_tbl := lw_at lw_m6 67 rfl
theorem q1364 : (Jvm.Cond.methodLink "CreditBroker$World" (49 : Nat) ({ cls := "java/util/Iterator", name := "next", desc := "()Ljava/lang/Object;" } : Jvm.MethodName)) ∈ lw_all := lw_g (lw_at lw_m6 68 rfl) rfl
theorem q1512 : (Jvm.Cond.classLink "CreditBroker$World" (93 : Nat) "CreditBroker$Letter") ∈ lw_all := lw_g (lw_at lw_m6 216 rfl) rfl
theorem q1513 : (Jvm.Cond.methodLink "CreditBroker$World" (104 : Nat) ({ cls := "CreditBroker$Letter", name := "isHeldBy", desc := "(I)Z" } : Jvm.MethodName)) ∈ lw_all := lw_g (lw_at lw_m6 217 rfl) rfl
theorem q1517 : (Jvm.Cond.methodLink "CreditBroker$World" (239 : Nat) ({ cls := "CreditBroker$Letter", name := "readies", desc := "()V" } : Jvm.MethodName)) ∈ lw_all := lw_g (lw_at lw_m6 221 rfl) rfl
theorem q1534 : (Jvm.Cond.instanceMethod ({ cls := "CreditBroker$World", name := "publishes", desc := "([I)I" } : Jvm.MethodName)) ∈ lw_all := lw_g (lw_at lw_m6 238 rfl) rfl
theorem q1535 : (Jvm.Cond.selects "CreditBroker$World" ({ cls := "CreditBroker$World", name := "publishes", desc := "([I)I" } : Jvm.MethodName) ({ cls := "CreditBroker$World", name := "publishes", desc := "([I)I" } : Jvm.MethodName)) ∈ lw_all := lw_g (lw_at lw_m6 239 rfl) rfl
theorem q1536 : (Jvm.Cond.code ({ cls := "CreditBroker$World", name := "publishes", desc := "([I)I" } : Jvm.MethodName) prog_22_method_6_code (6 : Nat) (Option.some Jvm.ClassFile.FieldType.int)) ∈ lw_all := lw_g (lw_at lw_m7 0 rfl) rfl
theorem q1537 : (Jvm.Cond.classLink "CreditBroker$World" (100 : Nat) "CreditBroker$Message") ∈ lw_all := lw_g (lw_at lw_m7 1 rfl) rfl
theorem q1539 : (Jvm.Cond.methodLink "CreditBroker$World" (89 : Nat) ({ cls := "java/util/ArrayList", name := "size", desc := "()I" } : Jvm.MethodName)) ∈ lw_all := lw_g (lw_at lw_m7 3 rfl) rfl
theorem q1540 : (Jvm.Cond.methodLink "CreditBroker$World" (128 : Nat) ({ cls := "CreditBroker$Pattern", name := "many", desc := "()I" } : Jvm.MethodName)) ∈ lw_all := lw_g (lw_at lw_m7 4 rfl) rfl
theorem q1541 : (Jvm.Cond.methodLink "CreditBroker$World" (133 : Nat) ({ cls := "CreditBroker$Message", name := "<init>", desc := "(III[I)V" } : Jvm.MethodName)) ∈ lw_all := lw_g (lw_at lw_m7 5 rfl) rfl
theorem q1547 : (Jvm.Cond.fieldLink "CreditBroker$World" (99 : Nat) "CreditBroker$Message" "number" "I") ∈ lw_all := lw_g (lw_at lw_m7 11 rfl) rfl
theorem q1560 : (Jvm.Cond.fieldLink "CreditBroker$World" (254 : Nat) "CreditBroker$Message" "time" "I") ∈ lw_all := lw_g (lw_at lw_m7 24 rfl) rfl
theorem q1577 : (Jvm.Cond.methodLink "CreditBroker$World" (58 : Nat) ({ cls := "java/util/ArrayList", name := "add", desc := "(Ljava/lang/Object;)Z" } : Jvm.MethodName)) ∈ lw_all := lw_g (lw_at lw_m7 41 rfl) rfl
theorem q1578 : (Jvm.Cond.methodLink "CreditBroker$World" (139 : Nat) ({ cls := "CreditBroker$Pattern", name := "covers", desc := "(LCreditBroker$Pattern;)Z" } : Jvm.MethodName)) ∈ lw_all := lw_g (lw_at lw_m7 42 rfl) rfl
theorem q1601 : (Jvm.Cond.methodLink "CreditBroker$World" (143 : Nat) ({ cls := "CreditBroker$Queue", name := "isFull", desc := "()Z" } : Jvm.MethodName)) ∈ lw_all := lw_g (lw_at lw_m7 65 rfl) rfl
theorem q1606 : (Jvm.Cond.classLink "CreditBroker$World" (146 : Nat) "CreditBroker$Overfull") ∈ lw_all := lw_g (lw_at lw_m7 70 rfl) rfl
theorem q1608 : (Jvm.Cond.methodLink "CreditBroker$World" (151 : Nat) ({ cls := "CreditBroker$Overfull", name := "<init>", desc := "(II)V" } : Jvm.MethodName)) ∈ lw_all := lw_g (lw_at lw_m7 72 rfl) rfl
theorem q1637 : (Jvm.Cond.methodLink "CreditBroker$World" (154 : Nat) ({ cls := "CreditBroker$World", name := "buries", desc := "(LCreditBroker$Queue;LCreditBroker$Message;LCreditBroker$Cause;)V" } : Jvm.MethodName)) ∈ lw_all := lw_g (lw_at lw_m7 101 rfl) rfl
theorem q1638 : (Jvm.Cond.privateMethod ({ cls := "CreditBroker$World", name := "buries", desc := "(LCreditBroker$Queue;LCreditBroker$Message;LCreditBroker$Cause;)V" } : Jvm.MethodName)) ∈ lw_tbl := lw_at lw_m7 102 rfl
theorem q1639 : (Jvm.Cond.instanceMethod ({ cls := "CreditBroker$World", name := "buries", desc := "(LCreditBroker$Queue;LCreditBroker$Message;LCreditBroker$Cause;)V" } : Jvm.MethodName)) ∈ lw_all := lw_g (lw_at lw_m7 103 rfl) rfl
theorem q1640 : (Jvm.Cond.code ({ cls := "CreditBroker$World", name := "buries", desc := "(LCreditBroker$Queue;LCreditBroker$Message;LCreditBroker$Cause;)V" } : Jvm.MethodName) prog_22_method_5_code (4 : Nat) (Option.none : Option Jvm.ClassFile.FieldType)) ∈ lw_all := lw_g (lw_at lw_m7 104 rfl) rfl
theorem q1641 : (Jvm.Cond.classLink "CreditBroker$World" (111 : Nat) "CreditBroker$Corpse") ∈ lw_all := lw_g (lw_at lw_m7 105 rfl) rfl
theorem q1643 : (Jvm.Cond.methodLink "CreditBroker$World" (114 : Nat) ({ cls := "CreditBroker$Corpse", name := "<init>", desc := "(LCreditBroker$Message;ILCreditBroker$Cause;)V" } : Jvm.MethodName)) ∈ lw_all := lw_g (lw_at lw_m7 107 rfl) rfl
theorem q1664 : (Jvm.Cond.methodLink "CreditBroker$World" (117 : Nat) ({ cls := "java/util/LinkedList", name := "addLast", desc := "(Ljava/lang/Object;)V" } : Jvm.MethodName)) ∈ lw_all := lw_g (lw_at lw_m7 128 rfl) rfl
theorem q1693 : (Jvm.Cond.methodLink "CreditBroker$World" (121 : Nat) ({ cls := "java/util/LinkedList", name := "size", desc := "()I" } : Jvm.MethodName)) ∈ lw_all := lw_g (lw_at lw_m7 157 rfl) rfl
theorem q1694 : (Jvm.Cond.methodLink "CreditBroker$World" (122 : Nat) ({ cls := "java/util/LinkedList", name := "removeFirst", desc := "()Ljava/lang/Object;" } : Jvm.MethodName)) ∈ lw_all := lw_g (lw_at lw_m7 158 rfl) rfl
theorem q1703 : (Jvm.Cond.methodLink "CreditBroker$World" (158 : Nat) ({ cls := "CreditBroker$Letter", name := "<init>", desc := "(LCreditBroker$Message;)V" } : Jvm.MethodName)) ∈ lw_all := lw_g (lw_at lw_m7 167 rfl) rfl
theorem q1710 : (Jvm.Cond.fieldLink "CreditBroker$World" (95 : Nat) "CreditBroker$Letter" "message" "LCreditBroker$Message;") ∈ lw_all := lw_g (lw_at lw_m7 174 rfl) rfl
theorem q1715 : (Jvm.Cond.fieldLink "CreditBroker$World" (242 : Nat) "CreditBroker$Letter" "state" "I") ∈ lw_all := lw_g (lw_at lw_m7 179 rfl) rfl
theorem q1718 : (Jvm.Cond.fieldLink "CreditBroker$World" (245 : Nat) "CreditBroker$Letter" "till" "I") ∈ lw_all := lw_g (lw_at lw_m7 182 rfl) rfl
theorem q1722 : (Jvm.Cond.fieldLink "CreditBroker$World" (220 : Nat) "CreditBroker$Letter" "failed" "I") ∈ lw_all := lw_g (lw_at lw_m7 186 rfl) rfl
theorem q1726 : (Jvm.Cond.fieldLink "CreditBroker$World" (108 : Nat) "CreditBroker$Letter" "consumer" "I") ∈ lw_all := lw_g (lw_at lw_m7 190 rfl) rfl
theorem q1731 : (Jvm.Cond.fieldLink "CreditBroker$World" (216 : Nat) "CreditBroker$Letter" "cause" "LCreditBroker$Cause;") ∈ lw_all := lw_g (lw_at lw_m7 195 rfl) rfl
theorem q1750 : (Jvm.Cond.instanceMethod ({ cls := "CreditBroker$World", name := "gives", desc := "(LCreditBroker$Queue;)I" } : Jvm.MethodName)) ∈ lw_all := lw_g (lw_at lw_m7 214 rfl) rfl
theorem q1751 : (Jvm.Cond.selects "CreditBroker$World" ({ cls := "CreditBroker$World", name := "gives", desc := "(LCreditBroker$Queue;)I" } : Jvm.MethodName) ({ cls := "CreditBroker$World", name := "gives", desc := "(LCreditBroker$Queue;)I" } : Jvm.MethodName)) ∈ lw_all := lw_g (lw_at lw_m7 215 rfl) rfl
theorem q1752 : (Jvm.Cond.code ({ cls := "CreditBroker$World", name := "gives", desc := "(LCreditBroker$Queue;)I" } : Jvm.MethodName) prog_22_method_9_code (4 : Nat) (Option.some Jvm.ClassFile.FieldType.int)) ∈ lw_all := lw_g (lw_at lw_m7 216 rfl) rfl
theorem q1753 : (Jvm.Cond.methodLink "CreditBroker$World" (179 : Nat) ({ cls := "CreditBroker$Queue", name := "next", desc := "()LCreditBroker$Letter;" } : Jvm.MethodName)) ∈ lw_all := lw_g (lw_at lw_m7 217 rfl) rfl
theorem q1763 : (Jvm.Cond.methodLink "CreditBroker$World" (182 : Nat) ({ cls := "CreditBroker$World", name := "who", desc := "(LCreditBroker$Queue;)LCreditBroker$Consumer;" } : Jvm.MethodName)) ∈ lw_all := lw_g (lw_at lw_m7 227 rfl) rfl
theorem q1764 : (Jvm.Cond.instanceMethod ({ cls := "CreditBroker$World", name := "who", desc := "(LCreditBroker$Queue;)LCreditBroker$Consumer;" } : Jvm.MethodName)) ∈ lw_all := lw_g (lw_at lw_m7 228 rfl) rfl
theorem q1765 : (Jvm.Cond.selects "CreditBroker$World" ({ cls := "CreditBroker$World", name := "who", desc := "(LCreditBroker$Queue;)LCreditBroker$Consumer;" } : Jvm.MethodName) ({ cls := "CreditBroker$World", name := "who", desc := "(LCreditBroker$Queue;)LCreditBroker$Consumer;" } : Jvm.MethodName)) ∈ lw_all := lw_g (lw_at lw_m7 229 rfl) rfl
theorem q1766 : (Jvm.Cond.code ({ cls := "CreditBroker$World", name := "who", desc := "(LCreditBroker$Queue;)LCreditBroker$Consumer;" } : Jvm.MethodName) prog_22_method_8_code (7 : Nat) (Option.some (Jvm.ClassFile.FieldType.object "CreditBroker$Consumer"))) ∈ lw_all := lw_g (lw_at lw_m7 230 rfl) rfl
theorem q1767 : (Jvm.Cond.classLink "CreditBroker$World" (62 : Nat) "CreditBroker$Consumer") ∈ lw_all := lw_g (lw_at lw_m7 231 rfl) rfl
theorem q1768 : (Jvm.Cond.methodLink "CreditBroker$World" (165 : Nat) ({ cls := "CreditBroker$World", name := "isOf", desc := "(LCreditBroker$Consumer;LCreditBroker$Queue;)Z" } : Jvm.MethodName)) ∈ lw_all := lw_g (lw_at lw_m7 232 rfl) rfl
theorem q1769 : (Jvm.Cond.privateMethod ({ cls := "CreditBroker$World", name := "isOf", desc := "(LCreditBroker$Consumer;LCreditBroker$Queue;)Z" } : Jvm.MethodName)) ∈ lw_tbl := lw_at lw_m7 233 rfl
theorem q1770 : (Jvm.Cond.instanceMethod ({ cls := "CreditBroker$World", name := "isOf", desc := "(LCreditBroker$Consumer;LCreditBroker$Queue;)Z" } : Jvm.MethodName)) ∈ lw_all := lw_g (lw_at lw_m7 234 rfl) rfl
theorem q1771 : (Jvm.Cond.code ({ cls := "CreditBroker$World", name := "isOf", desc := "(LCreditBroker$Consumer;LCreditBroker$Queue;)Z" } : Jvm.MethodName) prog_22_method_7_code (3 : Nat) (Option.some Jvm.ClassFile.FieldType.boolean)) ∈ lw_all := lw_g (lw_at lw_m7 235 rfl) rfl
theorem q1772 : (Jvm.Cond.methodLink "CreditBroker$World" (189 : Nat) ({ cls := "CreditBroker$Letter", name := "becomes", desc := "(III)V" } : Jvm.MethodName)) ∈ lw_all := lw_g (lw_at lw_m7 236 rfl) rfl
theorem q1782 : (Jvm.Cond.instanceMethod ({ cls := "CreditBroker$World", name := "held", desc := "(II)LCreditBroker$Letter;" } : Jvm.MethodName)) ∈ lw_all := lw_g (lw_at lw_m8 6 rfl) rfl
theorem q1783 : (Jvm.Cond.selects "CreditBroker$World" ({ cls := "CreditBroker$World", name := "held", desc := "(II)LCreditBroker$Letter;" } : Jvm.MethodName) ({ cls := "CreditBroker$World", name := "held", desc := "(II)LCreditBroker$Letter;" } : Jvm.MethodName)) ∈ lw_all := lw_g (lw_at lw_m8 7 rfl) rfl
theorem q1784 : (Jvm.Cond.code ({ cls := "CreditBroker$World", name := "held", desc := "(II)LCreditBroker$Letter;" } : Jvm.MethodName) prog_22_method_3_code (5 : Nat) (Option.some (Jvm.ClassFile.FieldType.object "CreditBroker$Letter"))) ∈ lw_all := lw_g (lw_at lw_m8 8 rfl) rfl
theorem q1786 : (Jvm.Cond.instanceMethod ({ cls := "CreditBroker$World", name := "acknowledges", desc := "(LCreditBroker$Consumer;LCreditBroker$Letter;)V" } : Jvm.MethodName)) ∈ lw_all := lw_g (lw_at lw_m8 10 rfl) rfl
theorem q1787 : (Jvm.Cond.selects "CreditBroker$World" ({ cls := "CreditBroker$World", name := "acknowledges", desc := "(LCreditBroker$Consumer;LCreditBroker$Letter;)V" } : Jvm.MethodName) ({ cls := "CreditBroker$World", name := "acknowledges", desc := "(LCreditBroker$Consumer;LCreditBroker$Letter;)V" } : Jvm.MethodName)) ∈ lw_all := lw_g (lw_at lw_m8 11 rfl) rfl
theorem q1788 : (Jvm.Cond.code ({ cls := "CreditBroker$World", name := "acknowledges", desc := "(LCreditBroker$Consumer;LCreditBroker$Letter;)V" } : Jvm.MethodName) prog_22_method_11_code (3 : Nat) (Option.none : Option Jvm.ClassFile.FieldType)) ∈ lw_all := lw_g (lw_at lw_m8 12 rfl) rfl
theorem q1789 : (Jvm.Cond.methodLink "CreditBroker$World" (199 : Nat) ({ cls := "CreditBroker$World", name := "returns", desc := "(LCreditBroker$Letter;)LCreditBroker$Consumer;" } : Jvm.MethodName)) ∈ lw_all := lw_g (lw_at lw_m8 13 rfl) rfl
theorem q1790 : (Jvm.Cond.privateMethod ({ cls := "CreditBroker$World", name := "returns", desc := "(LCreditBroker$Letter;)LCreditBroker$Consumer;" } : Jvm.MethodName)) ∈ lw_tbl := lw_at lw_m8 14 rfl
theorem q1791 : (Jvm.Cond.instanceMethod ({ cls := "CreditBroker$World", name := "returns", desc := "(LCreditBroker$Letter;)LCreditBroker$Consumer;" } : Jvm.MethodName)) ∈ lw_all := lw_g (lw_at lw_m8 15 rfl) rfl
theorem q1792 : (Jvm.Cond.code ({ cls := "CreditBroker$World", name := "returns", desc := "(LCreditBroker$Letter;)LCreditBroker$Consumer;" } : Jvm.MethodName) prog_22_method_4_code (2 : Nat) (Option.some (Jvm.ClassFile.FieldType.object "CreditBroker$Consumer"))) ∈ lw_all := lw_g (lw_at lw_m8 16 rfl) rfl
theorem q1793 : (Jvm.Cond.methodLink "CreditBroker$World" (203 : Nat) ({ cls := "CreditBroker$Consumer", name := "gains", desc := "()V" } : Jvm.MethodName)) ∈ lw_all := lw_g (lw_at lw_m8 17 rfl) rfl
theorem q1798 : (Jvm.Cond.methodLink "CreditBroker$World" (210 : Nat) ({ cls := "java/util/ArrayList", name := "remove", desc := "(Ljava/lang/Object;)Z" } : Jvm.MethodName)) ∈ lw_all := lw_g (lw_at lw_m8 22 rfl) rfl
theorem q1822 : (Jvm.Cond.selects "CreditBroker$World" ({ cls := "java/lang/Object", name := "equals", desc := "(Ljava/lang/Object;)Z" } : Jvm.MethodName) ({ cls := "java/lang/Object", name := "equals", desc := "(Ljava/lang/Object;)Z" } : Jvm.MethodName)) ∈ lw_all := lw_g (lw_at lw_m8 46 rfl) rfl
theorem q1869 : (Jvm.Cond.instanceMethod ({ cls := "CreditBroker$World", name := "refuses", desc := "(LCreditBroker$Consumer;LCreditBroker$Letter;)I" } : Jvm.MethodName)) ∈ lw_all := lw_g (lw_at lw_m8 93 rfl) rfl
theorem q1870 : (Jvm.Cond.selects "CreditBroker$World" ({ cls := "CreditBroker$World", name := "refuses", desc := "(LCreditBroker$Consumer;LCreditBroker$Letter;)I" } : Jvm.MethodName) ({ cls := "CreditBroker$World", name := "refuses", desc := "(LCreditBroker$Consumer;LCreditBroker$Letter;)I" } : Jvm.MethodName)) ∈ lw_all := lw_g (lw_at lw_m8 94 rfl) rfl
theorem q1871 : (Jvm.Cond.code ({ cls := "CreditBroker$World", name := "refuses", desc := "(LCreditBroker$Consumer;LCreditBroker$Letter;)I" } : Jvm.MethodName) prog_22_method_13_code (4 : Nat) (Option.some Jvm.ClassFile.FieldType.int)) ∈ lw_all := lw_g (lw_at lw_m8 95 rfl) rfl
theorem q1872 : (Jvm.Cond.classLink "CreditBroker$World" (230 : Nat) "CreditBroker$Rejected") ∈ lw_all := lw_g (lw_at lw_m8 96 rfl) rfl
theorem q1874 : (Jvm.Cond.methodLink "CreditBroker$World" (232 : Nat) ({ cls := "CreditBroker$Rejected", name := "<init>", desc := "(ILCreditBroker$Letter;)V" } : Jvm.MethodName)) ∈ lw_all := lw_g (lw_at lw_m8 98 rfl) rfl
theorem q1898 : (Jvm.Cond.methodLink "CreditBroker$World" (235 : Nat) ({ cls := "CreditBroker$World", name := "fails", desc := "(LCreditBroker$Queue;LCreditBroker$Letter;LCreditBroker$Cause;)Z" } : Jvm.MethodName)) ∈ lw_all := lw_g (lw_at lw_m8 122 rfl) rfl
theorem q1899 : (Jvm.Cond.privateMethod ({ cls := "CreditBroker$World", name := "fails", desc := "(LCreditBroker$Queue;LCreditBroker$Letter;LCreditBroker$Cause;)Z" } : Jvm.MethodName)) ∈ lw_tbl := lw_at lw_m8 123 rfl
theorem q1900 : (Jvm.Cond.instanceMethod ({ cls := "CreditBroker$World", name := "fails", desc := "(LCreditBroker$Queue;LCreditBroker$Letter;LCreditBroker$Cause;)Z" } : Jvm.MethodName)) ∈ lw_all := lw_g (lw_at lw_m8 124 rfl) rfl
theorem q1901 : (Jvm.Cond.code ({ cls := "CreditBroker$World", name := "fails", desc := "(LCreditBroker$Queue;LCreditBroker$Letter;LCreditBroker$Cause;)Z" } : Jvm.MethodName) prog_22_method_12_code (4 : Nat) (Option.some Jvm.ClassFile.FieldType.boolean)) ∈ lw_all := lw_g (lw_at lw_m8 125 rfl) rfl
theorem q1902 : (Jvm.Cond.fieldLinkNest "CreditBroker$World" (226 : Nat) "CreditBroker" "WAITS" "[I" "CreditBroker") ∈ lw_tbl := lw_at lw_m8 126 rfl
theorem q1909 : (Jvm.Cond.instanceMethod ({ cls := "CreditBroker$World", name := "passes", desc := "()I" } : Jvm.MethodName)) ∈ lw_all := lw_g (lw_at lw_m8 133 rfl) rfl
theorem q1910 : (Jvm.Cond.selects "CreditBroker$World" ({ cls := "CreditBroker$World", name := "passes", desc := "()I" } : Jvm.MethodName) ({ cls := "CreditBroker$World", name := "passes", desc := "()I" } : Jvm.MethodName)) ∈ lw_all := lw_g (lw_at lw_m8 134 rfl) rfl
theorem q1911 : (Jvm.Cond.code ({ cls := "CreditBroker$World", name := "passes", desc := "()I" } : Jvm.MethodName) prog_22_method_16_code (5 : Nat) (Option.some Jvm.ClassFile.FieldType.int)) ∈ lw_all := lw_g (lw_at lw_m8 135 rfl) rfl
theorem q1912 : (Jvm.Cond.methodLink "CreditBroker$World" (258 : Nat) ({ cls := "CreditBroker$World", name := "ages", desc := "(LCreditBroker$Queue;LCreditBroker$Letter;)Z" } : Jvm.MethodName)) ∈ lw_all := lw_g (lw_at lw_m8 136 rfl) rfl
theorem q1913 : (Jvm.Cond.privateMethod ({ cls := "CreditBroker$World", name := "ages", desc := "(LCreditBroker$Queue;LCreditBroker$Letter;)Z" } : Jvm.MethodName)) ∈ lw_tbl := lw_at lw_m8 137 rfl
theorem q1914 : (Jvm.Cond.instanceMethod ({ cls := "CreditBroker$World", name := "ages", desc := "(LCreditBroker$Queue;LCreditBroker$Letter;)Z" } : Jvm.MethodName)) ∈ lw_all := lw_g (lw_at lw_m8 138 rfl) rfl
theorem q1915 : (Jvm.Cond.code ({ cls := "CreditBroker$World", name := "ages", desc := "(LCreditBroker$Queue;LCreditBroker$Letter;)Z" } : Jvm.MethodName) prog_22_method_15_code (4 : Nat) (Option.some Jvm.ClassFile.FieldType.boolean)) ∈ lw_all := lw_g (lw_at lw_m8 139 rfl) rfl
theorem q1916 : (Jvm.Cond.classLink "CreditBroker$World" (248 : Nat) "CreditBroker$Late") ∈ lw_all := lw_g (lw_at lw_m8 140 rfl) rfl
theorem q1918 : (Jvm.Cond.methodLink "CreditBroker$World" (250 : Nat) ({ cls := "CreditBroker$Late", name := "<init>", desc := "(ILCreditBroker$Letter;)V" } : Jvm.MethodName)) ∈ lw_all := lw_g (lw_at lw_m8 142 rfl) rfl
theorem q1927 : (Jvm.Cond.classLink "CreditBroker$World" (255 : Nat) "CreditBroker$Old") ∈ lw_all := lw_g (lw_at lw_m8 151 rfl) rfl
theorem q1929 : (Jvm.Cond.methodLink "CreditBroker$World" (257 : Nat) ({ cls := "CreditBroker$Old", name := "<init>", desc := "(ILCreditBroker$Letter;)V" } : Jvm.MethodName)) ∈ lw_all := lw_g (lw_at lw_m8 153 rfl) rfl
theorem q1939 : (Jvm.Cond.methodLink "CreditBroker$World" (262 : Nat) ({ cls := "java/util/ArrayList", name := "remove", desc := "(I)Ljava/lang/Object;" } : Jvm.MethodName)) ∈ lw_all := lw_g (lw_at lw_m8 163 rfl) rfl
theorem q2683 : (Jvm.Cond.instanceMethod ({ cls := "CreditBroker$World", name := "becomes", desc := "(LCreditBroker$World;)LCreditBroker$World;" } : Jvm.MethodName)) ∈ lw_all := lw_g (lw_at lw_m11 187 rfl) rfl
theorem q2684 : (Jvm.Cond.selects "CreditBroker$World" ({ cls := "CreditBroker$World", name := "becomes", desc := "(LCreditBroker$World;)LCreditBroker$World;" } : Jvm.MethodName) ({ cls := "CreditBroker$World", name := "becomes", desc := "(LCreditBroker$World;)LCreditBroker$World;" } : Jvm.MethodName)) ∈ lw_all := lw_g (lw_at lw_m11 188 rfl) rfl
theorem q2685 : (Jvm.Cond.code ({ cls := "CreditBroker$World", name := "becomes", desc := "(LCreditBroker$World;)LCreditBroker$World;" } : Jvm.MethodName) prog_22_method_2_code (4 : Nat) (Option.some (Jvm.ClassFile.FieldType.object "CreditBroker$World"))) ∈ lw_all := lw_g (lw_at lw_m11 189 rfl) rfl
theorem q2686 : (Jvm.Cond.methodLink "CreditBroker$World" (35 : Nat) ({ cls := "java/util/ArrayList", name := "clear", desc := "()V" } : Jvm.MethodName)) ∈ lw_all := lw_g (lw_at lw_m11 190 rfl) rfl
theorem q2690 : (Jvm.Cond.methodLink "CreditBroker$World" (38 : Nat) ({ cls := "java/util/LinkedList", name := "clear", desc := "()V" } : Jvm.MethodName)) ∈ lw_all := lw_g (lw_at lw_m11 194 rfl) rfl
theorem q2694 : (Jvm.Cond.methodLink "CreditBroker$World" (55 : Nat) ({ cls := "CreditBroker$Queue", name := "<init>", desc := "(LCreditBroker$Queue;)V" } : Jvm.MethodName)) ∈ lw_all := lw_g (lw_at lw_m11 198 rfl) rfl
theorem q2695 : (Jvm.Cond.methodLink "CreditBroker$World" (64 : Nat) ({ cls := "CreditBroker$Consumer", name := "<init>", desc := "(LCreditBroker$Consumer;)V" } : Jvm.MethodName)) ∈ lw_all := lw_g (lw_at lw_m11 199 rfl) rfl
theorem q2699 : (Jvm.Cond.methodLink "CreditBroker$World" (67 : Nat) ({ cls := "java/util/ArrayList", name := "addAll", desc := "(Ljava/util/Collection;)Z" } : Jvm.MethodName)) ∈ lw_all := lw_g (lw_at lw_m11 203 rfl) rfl
theorem q2740 : (Jvm.Cond.methodLink "CreditBroker$World" (71 : Nat) ({ cls := "java/util/LinkedList", name := "addAll", desc := "(Ljava/util/Collection;)Z" } : Jvm.MethodName)) ∈ lw_all := lw_g (lw_at lw_m12 4 rfl) rfl
theorem q2772 : (Jvm.Cond.instanceMethod ({ cls := "CreditBroker$World", name := "day", desc := "()Z" } : Jvm.MethodName)) ∈ lw_all := lw_g (lw_at lw_m12 36 rfl) rfl
theorem q2773 : (Jvm.Cond.selects "CreditBroker$World" ({ cls := "CreditBroker$World", name := "day", desc := "()Z" } : Jvm.MethodName) ({ cls := "CreditBroker$World", name := "day", desc := "()Z" } : Jvm.MethodName)) ∈ lw_all := lw_g (lw_at lw_m12 37 rfl) rfl
theorem q2774 : (Jvm.Cond.code ({ cls := "CreditBroker$World", name := "day", desc := "()Z" } : Jvm.MethodName) prog_22_method_20_code (2 : Nat) (Option.some Jvm.ClassFile.FieldType.boolean)) ∈ lw_all := lw_g (lw_at lw_m12 38 rfl) rfl
theorem q2775 : (Jvm.Cond.methodLink "CreditBroker$World" (299 : Nat) ({ cls := "CreditBroker$World", name := "acts", desc := "()Z" } : Jvm.MethodName)) ∈ lw_all := lw_g (lw_at lw_m12 39 rfl) rfl
theorem q2776 : (Jvm.Cond.privateMethod ({ cls := "CreditBroker$World", name := "acts", desc := "()Z" } : Jvm.MethodName)) ∈ lw_tbl := lw_at lw_m12 40 rfl
theorem q2777 : (Jvm.Cond.instanceMethod ({ cls := "CreditBroker$World", name := "acts", desc := "()Z" } : Jvm.MethodName)) ∈ lw_all := lw_g (lw_at lw_m12 41 rfl) rfl
theorem q2778 : (Jvm.Cond.code ({ cls := "CreditBroker$World", name := "acts", desc := "()Z" } : Jvm.MethodName) prog_22_method_19_code (5 : Nat) (Option.some Jvm.ClassFile.FieldType.boolean)) ∈ lw_all := lw_g (lw_at lw_m12 42 rfl) rfl
theorem q2779 : (Jvm.Cond.methodLink "CreditBroker$World" (265 : Nat) ({ cls := "CreditBroker$World", name := "draw", desc := "(I)I" } : Jvm.MethodName)) ∈ lw_all := lw_g (lw_at lw_m12 43 rfl) rfl
theorem q2780 : (Jvm.Cond.instanceMethod ({ cls := "CreditBroker$World", name := "draw", desc := "(I)I" } : Jvm.MethodName)) ∈ lw_all := lw_g (lw_at lw_m12 44 rfl) rfl
theorem q2781 : (Jvm.Cond.selects "CreditBroker$World" ({ cls := "CreditBroker$World", name := "draw", desc := "(I)I" } : Jvm.MethodName) ({ cls := "CreditBroker$World", name := "draw", desc := "(I)I" } : Jvm.MethodName)) ∈ lw_all := lw_g (lw_at lw_m12 45 rfl) rfl
theorem q2782 : (Jvm.Cond.code ({ cls := "CreditBroker$World", name := "draw", desc := "(I)I" } : Jvm.MethodName) prog_22_method_17_code (2 : Nat) (Option.some Jvm.ClassFile.FieldType.int)) ∈ lw_all := lw_g (lw_at lw_m12 46 rfl) rfl
theorem q2783 : (Jvm.Cond.constant "CreditBroker$World" (264 : Nat) (1103515245 : Int32)) ∈ lw_all := lw_g (lw_at lw_m12 47 rfl) rfl
theorem q2784 : (Jvm.Cond.methodLink "CreditBroker$World" (284 : Nat) ({ cls := "CreditBroker$World", name := "publishes", desc := "([I)I" } : Jvm.MethodName)) ∈ lw_all := lw_g (lw_at lw_m12 48 rfl) rfl
theorem q2785 : (Jvm.Cond.methodLink "CreditBroker$World" (288 : Nat) ({ cls := "java/util/ArrayList", name := "isEmpty", desc := "()Z" } : Jvm.MethodName)) ∈ lw_all := lw_g (lw_at lw_m12 49 rfl) rfl
theorem q2789 : (Jvm.Cond.methodLink "CreditBroker$World" (291 : Nat) ({ cls := "CreditBroker$World", name := "gives", desc := "(LCreditBroker$Queue;)I" } : Jvm.MethodName)) ∈ lw_all := lw_g (lw_at lw_m12 53 rfl) rfl
theorem q2790 : (Jvm.Cond.methodLink "CreditBroker$World" (295 : Nat) ({ cls := "CreditBroker$World", name := "answers", desc := "(Z)Z" } : Jvm.MethodName)) ∈ lw_all := lw_g (lw_at lw_m12 54 rfl) rfl
theorem q2791 : (Jvm.Cond.privateMethod ({ cls := "CreditBroker$World", name := "answers", desc := "(Z)Z" } : Jvm.MethodName)) ∈ lw_tbl := lw_at lw_m12 55 rfl
theorem q2792 : (Jvm.Cond.instanceMethod ({ cls := "CreditBroker$World", name := "answers", desc := "(Z)Z" } : Jvm.MethodName)) ∈ lw_all := lw_g (lw_at lw_m12 56 rfl) rfl
theorem q2793 : (Jvm.Cond.code ({ cls := "CreditBroker$World", name := "answers", desc := "(Z)Z" } : Jvm.MethodName) prog_22_method_18_code (4 : Nat) (Option.some Jvm.ClassFile.FieldType.boolean)) ∈ lw_all := lw_g (lw_at lw_m12 57 rfl) rfl
theorem q2794 : (Jvm.Cond.static ({ cls := "CreditBroker$World", name := "lambda$answers$0", desc := "(LCreditBroker$Consumer;LCreditBroker$Letter;)Z" } : Jvm.MethodName)) ∈ lw_all := lw_g (lw_at lw_m12 58 rfl) rfl
theorem q2795 : (Jvm.Cond.code ({ cls := "CreditBroker$World", name := "lambda$answers$0", desc := "(LCreditBroker$Consumer;LCreditBroker$Letter;)Z" } : Jvm.MethodName) prog_22_method_21_code (2 : Nat) (Option.some Jvm.ClassFile.FieldType.boolean)) ∈ lw_all := lw_g (lw_at lw_m12 59 rfl) rfl
theorem q2796 : (Jvm.Cond.methodLink "CreditBroker$World" (273 : Nat) ({ cls := "CreditBroker$Queue", name := "get", desc := "(ILCreditBroker$Which;)LCreditBroker$Letter;" } : Jvm.MethodName)) ∈ lw_all := lw_g (lw_at lw_m12 60 rfl) rfl
theorem q2797 : (Jvm.Cond.methodLink "CreditBroker$World" (276 : Nat) ({ cls := "CreditBroker$World", name := "refuses", desc := "(LCreditBroker$Consumer;LCreditBroker$Letter;)I" } : Jvm.MethodName)) ∈ lw_all := lw_g (lw_at lw_m12 61 rfl) rfl
theorem q2798 : (Jvm.Cond.methodLink "CreditBroker$World" (280 : Nat) ({ cls := "CreditBroker$World", name := "acknowledges", desc := "(LCreditBroker$Consumer;LCreditBroker$Letter;)V" } : Jvm.MethodName)) ∈ lw_all := lw_g (lw_at lw_m12 62 rfl) rfl
theorem q2799 : (Jvm.Cond.methodLink "CreditBroker$World" (302 : Nat) ({ cls := "CreditBroker$World", name := "passes", desc := "()I" } : Jvm.MethodName)) ∈ lw_all := lw_g (lw_at lw_m12 63 rfl) rfl
theorem q3313 : (Jvm.Cond.castable "CreditBroker$World" "java/lang/Object") ∈ lw_tbl := lw_at lw_m14 97 rfl
theorem in_X1 : ∀ w ∈ wsX10, w ∈ lw_all := lw_in wsX10 [245, 247, 249, 251, 253, 255, 257] (by decide +kernel) (by decide +kernel)
/-! CreditBroker$Consumer -/
def RX10 : String := "CreditBroker$Consumer"
def TX10 : u_T := fun k => match k with
  | 0 => ("CreditBroker$Consumer", "number", "I", true)
  | 1 => ("CreditBroker$Consumer", "queue", "I", true)
  | 2 => ("CreditBroker$Consumer", "credits", "I", false)
  | 3 => ("CreditBroker$Consumer", "got", "I", false)
  | _ => ("CreditBroker$Consumer", "isGone", "Z", false)
def tyX10 : Nat → FieldType := fun k => match k with
  | 0 => .int
  | 1 => .int
  | 2 => .int
  | 3 => .int
  | _ => .boolean
abbrev wsX100 : List Cond := u_ws RX10 TX10 5
theorem nmX10 : ∀ a, a < 5 → ∀ b, b < 5 → a ≠ b → (TX10 a).2.1 ≠ (TX10 b).2.1 := by decide +kernel
theorem tyX10_ok : ∀ k, k < 5 → parseFieldDescriptor (TX10 k).2.2.1 = some (tyX10 k) := by decide +kernel
abbrev cX10_init : ByteArray := prog_4_method_1_code
def yX10_init : MethodName := ⟨RX10, "<init>", "(II)V"⟩
def dkwX10_init_0 : List UInt8 := [42, 183, 0, 3, 42, 27, 181, 0, 9, 42, 28, 181, 0, 15, 177]
abbrev dktX10_init_0 : List UInt8 := dkwX10_init_0 ++ []
theorem dksX10_init_0 : cX10_init.data.toList.drop 0 = dktX10_init_0 := by decide +kernel
theorem dX10_init_0 : decode cX10_init 0 = .ok (.aload_n 0, 1) := dk_42 (dk_at dksX10_init_0 0 rfl rfl)
theorem dX10_init_1 : decode cX10_init 1 = .ok (.invokespecial 3, 3) := dk_183 0 3 (dk_at dksX10_init_0 1 rfl rfl)
theorem dX10_init_4 : decode cX10_init 4 = .ok (.aload_n 0, 1) := dk_42 (dk_at dksX10_init_0 4 rfl rfl)
theorem dX10_init_5 : decode cX10_init 5 = .ok (.iload_n 1, 1) := dk_27 (dk_at dksX10_init_0 5 rfl rfl)
theorem dX10_init_6 : decode cX10_init 6 = .ok (.putfield 9, 3) := dk_181 0 9 (dk_at dksX10_init_0 6 rfl rfl)
theorem dX10_init_9 : decode cX10_init 9 = .ok (.aload_n 0, 1) := dk_42 (dk_at dksX10_init_0 9 rfl rfl)
theorem dX10_init_10 : decode cX10_init 10 = .ok (.iload_n 2, 1) := dk_28 (dk_at dksX10_init_0 10 rfl rfl)
theorem dX10_init_11 : decode cX10_init 11 = .ok (.putfield 15, 3) := dk_181 0 15 (dk_at dksX10_init_0 11 rfl rfl)
theorem dX10_init_14 : decode cX10_init 14 = .ok (.return_, 1) := dk_177 (dk_at dksX10_init_0 14 rfl rfl)
abbrev cX10_gains : ByteArray := prog_4_method_3_code
def yX10_gains : MethodName := ⟨RX10, "gains", "()V"⟩
def dkwX10_gains_0 : List UInt8 := [42, 16, 9, 42, 180, 0, 21, 4, 96, 184, 0, 31, 181, 0, 21, 177]
abbrev dktX10_gains_0 : List UInt8 := dkwX10_gains_0 ++ []
theorem dksX10_gains_0 : cX10_gains.data.toList.drop 0 = dktX10_gains_0 := by decide +kernel
theorem dX10_gains_0 : decode cX10_gains 0 = .ok (.aload_n 0, 1) := dk_42 (dk_at dksX10_gains_0 0 rfl rfl)
theorem dX10_gains_1 : decode cX10_gains 1 = .ok (.bipush 9, 2) := dk_16 9 (dk_at dksX10_gains_0 1 rfl rfl)
theorem dX10_gains_3 : decode cX10_gains 3 = .ok (.aload_n 0, 1) := dk_42 (dk_at dksX10_gains_0 3 rfl rfl)
theorem dX10_gains_4 : decode cX10_gains 4 = .ok (.getfield 21, 3) := dk_180 0 21 (dk_at dksX10_gains_0 4 rfl rfl)
theorem dX10_gains_7 : decode cX10_gains 7 = .ok (.iconst 1, 1) := dk_4 (dk_at dksX10_gains_0 7 rfl rfl)
theorem dX10_gains_8 : decode cX10_gains 8 = .ok (.iadd, 1) := dk_96 (dk_at dksX10_gains_0 8 rfl rfl)
theorem dX10_gains_9 : decode cX10_gains 9 = .ok (.invokestatic 31, 3) := dk_184 0 31 (dk_at dksX10_gains_0 9 rfl rfl)
theorem dX10_gains_12 : decode cX10_gains 12 = .ok (.putfield 21, 3) := dk_181 0 21 (dk_at dksX10_gains_0 12 rfl rfl)
theorem dX10_gains_15 : decode cX10_gains 15 = .ok (.return_, 1) := dk_177 (dk_at dksX10_gains_0 15 rfl rfl)
abbrev cX10_init_2 : ByteArray := prog_4_method_2_code
def yX10_init_2 : MethodName := ⟨RX10, "<init>", "(LCreditBroker$Consumer;)V"⟩
def dkwX10_init_2_1 : List UInt8 := [180, 0, 24, 181, 0, 24, 42, 43, 180, 0, 27, 181, 0, 27, 177]
abbrev dktX10_init_2_1 : List UInt8 := dkwX10_init_2_1 ++ []
def dkwX10_init_2_0 : List UInt8 := [42, 43, 180, 0, 9, 43, 180, 0, 15, 183, 0, 18, 42, 43, 180, 0, 21, 181, 0, 21, 42, 43]
abbrev dktX10_init_2_0 : List UInt8 := dkwX10_init_2_0 ++ dktX10_init_2_1
theorem dksX10_init_2_0 : cX10_init_2.data.toList.drop 0 = dktX10_init_2_0 := by decide +kernel
theorem dksX10_init_2_1 : cX10_init_2.data.toList.drop 22 = dktX10_init_2_1 := dk_seg dksX10_init_2_0 22 rfl rfl
theorem dX10_init_2_0 : decode cX10_init_2 0 = .ok (.aload_n 0, 1) := dk_42 (dk_at dksX10_init_2_0 0 rfl rfl)
theorem dX10_init_2_1 : decode cX10_init_2 1 = .ok (.aload_n 1, 1) := dk_43 (dk_at dksX10_init_2_0 1 rfl rfl)
theorem dX10_init_2_2 : decode cX10_init_2 2 = .ok (.getfield 9, 3) := dk_180 0 9 (dk_at dksX10_init_2_0 2 rfl rfl)
theorem dX10_init_2_5 : decode cX10_init_2 5 = .ok (.aload_n 1, 1) := dk_43 (dk_at dksX10_init_2_0 5 rfl rfl)
theorem dX10_init_2_6 : decode cX10_init_2 6 = .ok (.getfield 15, 3) := dk_180 0 15 (dk_at dksX10_init_2_0 6 rfl rfl)
theorem dX10_init_2_9 : decode cX10_init_2 9 = .ok (.invokespecial 18, 3) := dk_183 0 18 (dk_at dksX10_init_2_0 9 rfl rfl)
theorem dX10_init_2_12 : decode cX10_init_2 12 = .ok (.aload_n 0, 1) := dk_42 (dk_at dksX10_init_2_0 12 rfl rfl)
theorem dX10_init_2_13 : decode cX10_init_2 13 = .ok (.aload_n 1, 1) := dk_43 (dk_at dksX10_init_2_0 13 rfl rfl)
theorem dX10_init_2_14 : decode cX10_init_2 14 = .ok (.getfield 21, 3) := dk_180 0 21 (dk_at dksX10_init_2_0 14 rfl rfl)
theorem dX10_init_2_17 : decode cX10_init_2 17 = .ok (.putfield 21, 3) := dk_181 0 21 (dk_at dksX10_init_2_0 17 rfl rfl)
theorem dX10_init_2_20 : decode cX10_init_2 20 = .ok (.aload_n 0, 1) := dk_42 (dk_at dksX10_init_2_0 20 rfl rfl)
theorem dX10_init_2_21 : decode cX10_init_2 21 = .ok (.aload_n 1, 1) := dk_43 (dk_at dksX10_init_2_0 21 rfl rfl)
theorem dX10_init_2_22 : decode cX10_init_2 22 = .ok (.getfield 24, 3) := dk_180 0 24 (dk_at dksX10_init_2_1 0 rfl rfl)
theorem dX10_init_2_25 : decode cX10_init_2 25 = .ok (.putfield 24, 3) := dk_181 0 24 (dk_at dksX10_init_2_1 3 rfl rfl)
theorem dX10_init_2_28 : decode cX10_init_2 28 = .ok (.aload_n 0, 1) := dk_42 (dk_at dksX10_init_2_1 6 rfl rfl)
theorem dX10_init_2_29 : decode cX10_init_2 29 = .ok (.aload_n 1, 1) := dk_43 (dk_at dksX10_init_2_1 7 rfl rfl)
theorem dX10_init_2_30 : decode cX10_init_2 30 = .ok (.getfield 27, 3) := dk_180 0 27 (dk_at dksX10_init_2_1 8 rfl rfl)
theorem dX10_init_2_33 : decode cX10_init_2 33 = .ok (.putfield 27, 3) := dk_181 0 27 (dk_at dksX10_init_2_1 11 rfl rfl)
theorem dX10_init_2_36 : decode cX10_init_2 36 = .ok (.return_, 1) := dk_177 (dk_at dksX10_init_2_1 14 rfl rfl)
theorem q134 : (Jvm.Cond.initialized "CreditBroker$Consumer") ∈ lw_all := lw_g (lw_at lw_m1 38 rfl) rfl
theorem q1064 : (Jvm.Cond.selects "CreditBroker$Consumer" ({ cls := "java/lang/Object", name := "getClass", desc := "()Ljava/lang/Class;" } : Jvm.MethodName) ({ cls := "java/lang/Object", name := "getClass", desc := "()Ljava/lang/Class;" } : Jvm.MethodName)) ∈ lw_all := lw_g (lw_at lw_m5 8 rfl) rfl
theorem q1239 : (Jvm.Cond.instantiable "CreditBroker$Consumer" (5 : Nat)) ∈ lw_all := lw_g (lw_at lw_m5 183 rfl) rfl
theorem q1241 : (Jvm.Cond.instanceMethod ({ cls := "CreditBroker$Consumer", name := "<init>", desc := "(II)V" } : Jvm.MethodName)) ∈ lw_all := lw_g (lw_at lw_m5 185 rfl) rfl
theorem q1242 : (Jvm.Cond.code ({ cls := "CreditBroker$Consumer", name := "<init>", desc := "(II)V" } : Jvm.MethodName) prog_4_method_1_code (3 : Nat) (Option.none : Option Jvm.ClassFile.FieldType)) ∈ lw_all := lw_g (lw_at lw_m5 186 rfl) rfl
theorem q1243 : (Jvm.Cond.methodLink "CreditBroker$Consumer" (3 : Nat) ({ cls := "java/lang/Object", name := "<init>", desc := "()V" } : Jvm.MethodName)) ∈ lw_all := lw_g (lw_at lw_m5 187 rfl) rfl
theorem q1244 : (Jvm.Cond.fieldLink "CreditBroker$Consumer" (9 : Nat) "CreditBroker$Consumer" "number" "I") ∈ lw_all := lw_g (lw_at lw_m5 188 rfl) rfl
theorem q1247 : (Jvm.Cond.fieldLink "CreditBroker$Consumer" (15 : Nat) "CreditBroker$Consumer" "queue" "I") ∈ lw_all := lw_g (lw_at lw_m5 191 rfl) rfl
theorem q1250 : (Jvm.Cond.fieldLink "CreditBroker$Consumer" (21 : Nat) "CreditBroker$Consumer" "credits" "I") ∈ lw_all := lw_g (lw_at lw_m5 194 rfl) rfl
theorem q1253 : (Jvm.Cond.fieldLink "CreditBroker$Consumer" (24 : Nat) "CreditBroker$Consumer" "got" "I") ∈ lw_all := lw_g (lw_at lw_m5 197 rfl) rfl
theorem q1256 : (Jvm.Cond.fieldLink "CreditBroker$Consumer" (27 : Nat) "CreditBroker$Consumer" "isGone" "Z") ∈ lw_all := lw_g (lw_at lw_m5 200 rfl) rfl
theorem q1259 : (Jvm.Cond.laysFinal "CreditBroker$Consumer" "CreditBroker$Consumer" "number" "I") ∈ lw_all := lw_g (lw_at lw_m5 203 rfl) rfl
theorem q1260 : (Jvm.Cond.soleField "CreditBroker$Consumer" "number") ∈ lw_all := lw_g (lw_at lw_m5 204 rfl) rfl
theorem q1261 : (Jvm.Cond.laysFinal "CreditBroker$Consumer" "CreditBroker$Consumer" "queue" "I") ∈ lw_all := lw_g (lw_at lw_m5 205 rfl) rfl
theorem q1262 : (Jvm.Cond.soleField "CreditBroker$Consumer" "queue") ∈ lw_all := lw_g (lw_at lw_m5 206 rfl) rfl
theorem q1263 : (Jvm.Cond.lays "CreditBroker$Consumer" "CreditBroker$Consumer" "credits" "I") ∈ lw_all := lw_g (lw_at lw_m5 207 rfl) rfl
theorem q1264 : (Jvm.Cond.soleField "CreditBroker$Consumer" "credits") ∈ lw_all := lw_g (lw_at lw_m5 208 rfl) rfl
theorem q1265 : (Jvm.Cond.lays "CreditBroker$Consumer" "CreditBroker$Consumer" "got" "I") ∈ lw_all := lw_g (lw_at lw_m5 209 rfl) rfl
theorem q1266 : (Jvm.Cond.soleField "CreditBroker$Consumer" "got") ∈ lw_all := lw_g (lw_at lw_m5 210 rfl) rfl
theorem q1267 : (Jvm.Cond.lays "CreditBroker$Consumer" "CreditBroker$Consumer" "isGone" "Z") ∈ lw_all := lw_g (lw_at lw_m5 211 rfl) rfl
theorem q1268 : (Jvm.Cond.soleField "CreditBroker$Consumer" "isGone") ∈ lw_all := lw_g (lw_at lw_m5 212 rfl) rfl
theorem q1269 : (Jvm.Cond.superclass "CreditBroker$Consumer" "java/lang/Object") ∈ lw_all := lw_g (lw_at lw_m5 213 rfl) rfl
theorem q1794 : (Jvm.Cond.instanceMethod ({ cls := "CreditBroker$Consumer", name := "gains", desc := "()V" } : Jvm.MethodName)) ∈ lw_all := lw_g (lw_at lw_m8 18 rfl) rfl
theorem q1795 : (Jvm.Cond.selects "CreditBroker$Consumer" ({ cls := "CreditBroker$Consumer", name := "gains", desc := "()V" } : Jvm.MethodName) ({ cls := "CreditBroker$Consumer", name := "gains", desc := "()V" } : Jvm.MethodName)) ∈ lw_all := lw_g (lw_at lw_m8 19 rfl) rfl
theorem q1796 : (Jvm.Cond.code ({ cls := "CreditBroker$Consumer", name := "gains", desc := "()V" } : Jvm.MethodName) prog_4_method_3_code (1 : Nat) (Option.none : Option Jvm.ClassFile.FieldType)) ∈ lw_all := lw_g (lw_at lw_m8 20 rfl) rfl
theorem q1797 : (Jvm.Cond.methodLink "CreditBroker$Consumer" (31 : Nat) ({ cls := "java/lang/Math", name := "min", desc := "(II)I" } : Jvm.MethodName)) ∈ lw_all := lw_g (lw_at lw_m8 21 rfl) rfl
theorem q1808 : (Jvm.Cond.selects "CreditBroker$Consumer" ({ cls := "java/lang/Object", name := "equals", desc := "(Ljava/lang/Object;)Z" } : Jvm.MethodName) ({ cls := "java/lang/Object", name := "equals", desc := "(Ljava/lang/Object;)Z" } : Jvm.MethodName)) ∈ lw_all := lw_g (lw_at lw_m8 32 rfl) rfl
theorem q2696 : (Jvm.Cond.instanceMethod ({ cls := "CreditBroker$Consumer", name := "<init>", desc := "(LCreditBroker$Consumer;)V" } : Jvm.MethodName)) ∈ lw_all := lw_g (lw_at lw_m11 200 rfl) rfl
theorem q2697 : (Jvm.Cond.code ({ cls := "CreditBroker$Consumer", name := "<init>", desc := "(LCreditBroker$Consumer;)V" } : Jvm.MethodName) prog_4_method_2_code (2 : Nat) (Option.none : Option Jvm.ClassFile.FieldType)) ∈ lw_all := lw_g (lw_at lw_m11 201 rfl) rfl
theorem q2698 : (Jvm.Cond.methodLink "CreditBroker$Consumer" (18 : Nat) ({ cls := "CreditBroker$Consumer", name := "<init>", desc := "(II)V" } : Jvm.MethodName)) ∈ lw_all := lw_g (lw_at lw_m11 202 rfl) rfl
theorem q3331 : (Jvm.Cond.castable "CreditBroker$Consumer" "java/lang/Object") ∈ lw_tbl := lw_at lw_m14 115 rfl
theorem in_X10 : ∀ w ∈ wsX100, w ∈ lw_all := lw_in wsX100 [1259, 1261, 1263, 1265, 1267] (by decide +kernel) (by decide +kernel)
/-! CreditBroker$Message -/
def RX11 : String := "CreditBroker$Message"
def TX11 : u_T := fun k => match k with
  | 0 => ("CreditBroker$Message", "number", "I", true)
  | 1 => ("CreditBroker$Message", "key", "I", true)
  | 2 => ("CreditBroker$Message", "priority", "I", true)
  | 3 => ("CreditBroker$Message", "value", "I", true)
  | 4 => ("CreditBroker$Message", "time", "I", true)
  | _ => ("CreditBroker$Message", "parts", "I", true)
def tyX11 : Nat → FieldType := fun k => match k with
  | 0 => .int
  | 1 => .int
  | 2 => .int
  | 3 => .int
  | 4 => .int
  | _ => .int
abbrev wsX110 : List Cond := u_ws RX11 TX11 6
theorem nmX11 : ∀ a, a < 6 → ∀ b, b < 6 → a ≠ b → (TX11 a).2.1 ≠ (TX11 b).2.1 := by decide +kernel
theorem tyX11_ok : ∀ k, k < 6 → parseFieldDescriptor (TX11 k).2.2.1 = some (tyX11 k) := by decide +kernel
abbrev cX11_init : ByteArray := prog_11_method_1_code
def yX11_init : MethodName := ⟨RX11, "<init>", "(III[I)V"⟩
def dkwX11_init_1 : List UInt8 := [181, 0, 19, 42, 25, 4, 4, 46, 181, 0, 22, 42, 25, 4, 5, 46, 181, 0, 25, 177]
abbrev dktX11_init_1 : List UInt8 := dkwX11_init_1 ++ []
def dkwX11_init_0 : List UInt8 := [42, 183, 0, 1, 42, 27, 181, 0, 7, 42, 28, 181, 0, 13, 42, 29, 181, 0, 16, 42, 25, 4, 3, 46]
abbrev dktX11_init_0 : List UInt8 := dkwX11_init_0 ++ dktX11_init_1
theorem dksX11_init_0 : cX11_init.data.toList.drop 0 = dktX11_init_0 := by decide +kernel
theorem dksX11_init_1 : cX11_init.data.toList.drop 24 = dktX11_init_1 := dk_seg dksX11_init_0 24 rfl rfl
theorem dX11_init_0 : decode cX11_init 0 = .ok (.aload_n 0, 1) := dk_42 (dk_at dksX11_init_0 0 rfl rfl)
theorem dX11_init_1 : decode cX11_init 1 = .ok (.invokespecial 1, 3) := dk_183 0 1 (dk_at dksX11_init_0 1 rfl rfl)
theorem dX11_init_4 : decode cX11_init 4 = .ok (.aload_n 0, 1) := dk_42 (dk_at dksX11_init_0 4 rfl rfl)
theorem dX11_init_5 : decode cX11_init 5 = .ok (.iload_n 1, 1) := dk_27 (dk_at dksX11_init_0 5 rfl rfl)
theorem dX11_init_6 : decode cX11_init 6 = .ok (.putfield 7, 3) := dk_181 0 7 (dk_at dksX11_init_0 6 rfl rfl)
theorem dX11_init_9 : decode cX11_init 9 = .ok (.aload_n 0, 1) := dk_42 (dk_at dksX11_init_0 9 rfl rfl)
theorem dX11_init_10 : decode cX11_init 10 = .ok (.iload_n 2, 1) := dk_28 (dk_at dksX11_init_0 10 rfl rfl)
theorem dX11_init_11 : decode cX11_init 11 = .ok (.putfield 13, 3) := dk_181 0 13 (dk_at dksX11_init_0 11 rfl rfl)
theorem dX11_init_14 : decode cX11_init 14 = .ok (.aload_n 0, 1) := dk_42 (dk_at dksX11_init_0 14 rfl rfl)
theorem dX11_init_15 : decode cX11_init 15 = .ok (.iload_n 3, 1) := dk_29 (dk_at dksX11_init_0 15 rfl rfl)
theorem dX11_init_16 : decode cX11_init 16 = .ok (.putfield 16, 3) := dk_181 0 16 (dk_at dksX11_init_0 16 rfl rfl)
theorem dX11_init_19 : decode cX11_init 19 = .ok (.aload_n 0, 1) := dk_42 (dk_at dksX11_init_0 19 rfl rfl)
theorem dX11_init_20 : decode cX11_init 20 = .ok (.aload 4, 2) := dk_25 4 (dk_at dksX11_init_0 20 rfl rfl)
theorem dX11_init_22 : decode cX11_init 22 = .ok (.iconst 0, 1) := dk_3 (dk_at dksX11_init_0 22 rfl rfl)
theorem dX11_init_23 : decode cX11_init 23 = .ok (.iaload, 1) := dk_46 (dk_at dksX11_init_0 23 rfl rfl)
theorem dX11_init_24 : decode cX11_init 24 = .ok (.putfield 19, 3) := dk_181 0 19 (dk_at dksX11_init_1 0 rfl rfl)
theorem dX11_init_27 : decode cX11_init 27 = .ok (.aload_n 0, 1) := dk_42 (dk_at dksX11_init_1 3 rfl rfl)
theorem dX11_init_28 : decode cX11_init 28 = .ok (.aload 4, 2) := dk_25 4 (dk_at dksX11_init_1 4 rfl rfl)
theorem dX11_init_30 : decode cX11_init 30 = .ok (.iconst 1, 1) := dk_4 (dk_at dksX11_init_1 6 rfl rfl)
theorem dX11_init_31 : decode cX11_init 31 = .ok (.iaload, 1) := dk_46 (dk_at dksX11_init_1 7 rfl rfl)
theorem dX11_init_32 : decode cX11_init 32 = .ok (.putfield 22, 3) := dk_181 0 22 (dk_at dksX11_init_1 8 rfl rfl)
theorem dX11_init_35 : decode cX11_init 35 = .ok (.aload_n 0, 1) := dk_42 (dk_at dksX11_init_1 11 rfl rfl)
theorem dX11_init_36 : decode cX11_init 36 = .ok (.aload 4, 2) := dk_25 4 (dk_at dksX11_init_1 12 rfl rfl)
theorem dX11_init_38 : decode cX11_init 38 = .ok (.iconst 2, 1) := dk_5 (dk_at dksX11_init_1 14 rfl rfl)
theorem dX11_init_39 : decode cX11_init 39 = .ok (.iaload, 1) := dk_46 (dk_at dksX11_init_1 15 rfl rfl)
theorem dX11_init_40 : decode cX11_init 40 = .ok (.putfield 25, 3) := dk_181 0 25 (dk_at dksX11_init_1 16 rfl rfl)
theorem dX11_init_43 : decode cX11_init 43 = .ok (.return_, 1) := dk_177 (dk_at dksX11_init_1 19 rfl rfl)
theorem q138 : (Jvm.Cond.initialized "CreditBroker$Message") ∈ lw_all := lw_g (lw_at lw_m1 42 rfl) rfl
theorem q1069 : (Jvm.Cond.selects "CreditBroker$Message" ({ cls := "java/lang/Object", name := "getClass", desc := "()Ljava/lang/Class;" } : Jvm.MethodName) ({ cls := "java/lang/Object", name := "getClass", desc := "()Ljava/lang/Class;" } : Jvm.MethodName)) ∈ lw_all := lw_g (lw_at lw_m5 13 rfl) rfl
theorem q1538 : (Jvm.Cond.instantiable "CreditBroker$Message" (6 : Nat)) ∈ lw_all := lw_g (lw_at lw_m7 2 rfl) rfl
theorem q1542 : (Jvm.Cond.instanceMethod ({ cls := "CreditBroker$Message", name := "<init>", desc := "(III[I)V" } : Jvm.MethodName)) ∈ lw_all := lw_g (lw_at lw_m7 6 rfl) rfl
theorem q1543 : (Jvm.Cond.code ({ cls := "CreditBroker$Message", name := "<init>", desc := "(III[I)V" } : Jvm.MethodName) prog_11_method_1_code (5 : Nat) (Option.none : Option Jvm.ClassFile.FieldType)) ∈ lw_all := lw_g (lw_at lw_m7 7 rfl) rfl
theorem q1544 : (Jvm.Cond.methodLink "CreditBroker$Message" (1 : Nat) ({ cls := "java/lang/Object", name := "<init>", desc := "()V" } : Jvm.MethodName)) ∈ lw_all := lw_g (lw_at lw_m7 8 rfl) rfl
theorem q1545 : (Jvm.Cond.fieldLink "CreditBroker$Message" (7 : Nat) "CreditBroker$Message" "number" "I") ∈ lw_all := lw_g (lw_at lw_m7 9 rfl) rfl
theorem q1550 : (Jvm.Cond.fieldLink "CreditBroker$Message" (19 : Nat) "CreditBroker$Message" "key" "I") ∈ lw_all := lw_g (lw_at lw_m7 14 rfl) rfl
theorem q1553 : (Jvm.Cond.fieldLink "CreditBroker$Message" (22 : Nat) "CreditBroker$Message" "priority" "I") ∈ lw_all := lw_g (lw_at lw_m7 17 rfl) rfl
theorem q1556 : (Jvm.Cond.fieldLink "CreditBroker$Message" (25 : Nat) "CreditBroker$Message" "value" "I") ∈ lw_all := lw_g (lw_at lw_m7 20 rfl) rfl
theorem q1558 : (Jvm.Cond.fieldLink "CreditBroker$Message" (13 : Nat) "CreditBroker$Message" "time" "I") ∈ lw_all := lw_g (lw_at lw_m7 22 rfl) rfl
theorem q1562 : (Jvm.Cond.fieldLink "CreditBroker$Message" (16 : Nat) "CreditBroker$Message" "parts" "I") ∈ lw_all := lw_g (lw_at lw_m7 26 rfl) rfl
theorem q1564 : (Jvm.Cond.laysFinal "CreditBroker$Message" "CreditBroker$Message" "number" "I") ∈ lw_all := lw_g (lw_at lw_m7 28 rfl) rfl
theorem q1565 : (Jvm.Cond.soleField "CreditBroker$Message" "number") ∈ lw_all := lw_g (lw_at lw_m7 29 rfl) rfl
theorem q1566 : (Jvm.Cond.laysFinal "CreditBroker$Message" "CreditBroker$Message" "key" "I") ∈ lw_all := lw_g (lw_at lw_m7 30 rfl) rfl
theorem q1567 : (Jvm.Cond.soleField "CreditBroker$Message" "key") ∈ lw_all := lw_g (lw_at lw_m7 31 rfl) rfl
theorem q1568 : (Jvm.Cond.laysFinal "CreditBroker$Message" "CreditBroker$Message" "priority" "I") ∈ lw_all := lw_g (lw_at lw_m7 32 rfl) rfl
theorem q1569 : (Jvm.Cond.soleField "CreditBroker$Message" "priority") ∈ lw_all := lw_g (lw_at lw_m7 33 rfl) rfl
theorem q1570 : (Jvm.Cond.laysFinal "CreditBroker$Message" "CreditBroker$Message" "value" "I") ∈ lw_all := lw_g (lw_at lw_m7 34 rfl) rfl
theorem q1571 : (Jvm.Cond.soleField "CreditBroker$Message" "value") ∈ lw_all := lw_g (lw_at lw_m7 35 rfl) rfl
theorem q1572 : (Jvm.Cond.laysFinal "CreditBroker$Message" "CreditBroker$Message" "time" "I") ∈ lw_all := lw_g (lw_at lw_m7 36 rfl) rfl
theorem q1573 : (Jvm.Cond.soleField "CreditBroker$Message" "time") ∈ lw_all := lw_g (lw_at lw_m7 37 rfl) rfl
theorem q1574 : (Jvm.Cond.laysFinal "CreditBroker$Message" "CreditBroker$Message" "parts" "I") ∈ lw_all := lw_g (lw_at lw_m7 38 rfl) rfl
theorem q1575 : (Jvm.Cond.soleField "CreditBroker$Message" "parts") ∈ lw_all := lw_g (lw_at lw_m7 39 rfl) rfl
theorem q1576 : (Jvm.Cond.superclass "CreditBroker$Message" "java/lang/Object") ∈ lw_all := lw_g (lw_at lw_m7 40 rfl) rfl
theorem q1813 : (Jvm.Cond.selects "CreditBroker$Message" ({ cls := "java/lang/Object", name := "equals", desc := "(Ljava/lang/Object;)Z" } : Jvm.MethodName) ({ cls := "java/lang/Object", name := "equals", desc := "(Ljava/lang/Object;)Z" } : Jvm.MethodName)) ∈ lw_all := lw_g (lw_at lw_m8 37 rfl) rfl
theorem q3333 : (Jvm.Cond.castable "CreditBroker$Message" "java/lang/Object") ∈ lw_tbl := lw_at lw_m14 117 rfl
theorem in_X11 : ∀ w ∈ wsX110, w ∈ lw_all := lw_in wsX110 [1564, 1566, 1568, 1570, 1572, 1574] (by decide +kernel) (by decide +kernel)
/-! CreditBroker$Cause -/
def RX12 : String := "CreditBroker$Cause"
abbrev cX12_kind : ByteArray := prog_3_method_3_code
def yX12_kind : MethodName := ⟨RX12, "kind", "()I"⟩
theorem dX12_kind_0 : decode cX12_kind 0 = .ok (.iconst 0, 1) := by decide +kernel
theorem dX12_kind_1 : decode cX12_kind 1 = .ok (.ireturn, 1) := by decide +kernel
abbrev cX12_depth : ByteArray := prog_3_method_4_code
def yX12_depth : MethodName := ⟨RX12, "depth", "()I"⟩
theorem dX12_depth_0 : decode cX12_depth 0 = .ok (.aload_n 0, 1) := by decide +kernel
theorem dX12_depth_1 : decode cX12_depth 1 = .ok (.getfield 1, 3) := by decide +kernel
theorem dX12_depth_4 : decode cX12_depth 4 = .ok (.ireturn, 1) := by decide +kernel
abbrev cX12_link : ByteArray := prog_3_method_5_code
def yX12_link : MethodName := ⟨RX12, "link", "(I)LCreditBroker$Cause;"⟩
def dkwX12_link_0 : List UInt8 := [27, 154, 0, 7, 42, 167, 0, 13, 42, 180, 0, 19, 27, 4, 100, 182, 0, 23, 176]
abbrev dktX12_link_0 : List UInt8 := dkwX12_link_0 ++ []
theorem dksX12_link_0 : cX12_link.data.toList.drop 0 = dktX12_link_0 := by decide +kernel
theorem dX12_link_0 : decode cX12_link 0 = .ok (.iload_n 1, 1) := dk_27 (dk_at dksX12_link_0 0 rfl rfl)
theorem dX12_link_1 : decode cX12_link 1 = .ok (.ifCond .ne 7, 3) := dk_154 0 7 (dk_at dksX12_link_0 1 rfl rfl)
theorem dX12_link_4 : decode cX12_link 4 = .ok (.aload_n 0, 1) := dk_42 (dk_at dksX12_link_0 4 rfl rfl)
theorem dX12_link_5 : decode cX12_link 5 = .ok (.goto 13, 3) := dk_167 0 13 (dk_at dksX12_link_0 5 rfl rfl)
theorem dX12_link_8 : decode cX12_link 8 = .ok (.aload_n 0, 1) := dk_42 (dk_at dksX12_link_0 8 rfl rfl)
theorem dX12_link_9 : decode cX12_link 9 = .ok (.getfield 19, 3) := dk_180 0 19 (dk_at dksX12_link_0 9 rfl rfl)
theorem dX12_link_12 : decode cX12_link 12 = .ok (.iload_n 1, 1) := dk_27 (dk_at dksX12_link_0 12 rfl rfl)
theorem dX12_link_13 : decode cX12_link 13 = .ok (.iconst 1, 1) := dk_4 (dk_at dksX12_link_0 13 rfl rfl)
theorem dX12_link_14 : decode cX12_link 14 = .ok (.isub, 1) := dk_100 (dk_at dksX12_link_0 14 rfl rfl)
theorem dX12_link_15 : decode cX12_link 15 = .ok (.invokevirtual 23, 3) := dk_182 0 23 (dk_at dksX12_link_0 15 rfl rfl)
theorem dX12_link_18 : decode cX12_link 18 = .ok (.areturn, 1) := dk_176 (dk_at dksX12_link_0 18 rfl rfl)
abbrev cX12_init : ByteArray := prog_3_method_1_code
def yX12_init : MethodName := ⟨RX12, "<init>", "(ILCreditBroker$Cause;)V"⟩
def dkwX12_init_0 : List UInt8 := [42, 27, 44, 44, 199, 0, 7, 4, 167, 0, 9, 44, 180, 0, 1, 4, 96, 183, 0, 7, 177]
abbrev dktX12_init_0 : List UInt8 := dkwX12_init_0 ++ []
theorem dksX12_init_0 : cX12_init.data.toList.drop 0 = dktX12_init_0 := by decide +kernel
theorem dX12_init_0 : decode cX12_init 0 = .ok (.aload_n 0, 1) := dk_42 (dk_at dksX12_init_0 0 rfl rfl)
theorem dX12_init_1 : decode cX12_init 1 = .ok (.iload_n 1, 1) := dk_27 (dk_at dksX12_init_0 1 rfl rfl)
theorem dX12_init_2 : decode cX12_init 2 = .ok (.aload_n 2, 1) := dk_44 (dk_at dksX12_init_0 2 rfl rfl)
theorem dX12_init_3 : decode cX12_init 3 = .ok (.aload_n 2, 1) := dk_44 (dk_at dksX12_init_0 3 rfl rfl)
theorem dX12_init_4 : decode cX12_init 4 = .ok (.ifnonnull 7, 3) := dk_199 0 7 (dk_at dksX12_init_0 4 rfl rfl)
theorem dX12_init_7 : decode cX12_init 7 = .ok (.iconst 1, 1) := dk_4 (dk_at dksX12_init_0 7 rfl rfl)
theorem dX12_init_8 : decode cX12_init 8 = .ok (.goto 9, 3) := dk_167 0 9 (dk_at dksX12_init_0 8 rfl rfl)
theorem dX12_init_11 : decode cX12_init 11 = .ok (.aload_n 2, 1) := dk_44 (dk_at dksX12_init_0 11 rfl rfl)
theorem dX12_init_12 : decode cX12_init 12 = .ok (.getfield 1, 3) := dk_180 0 1 (dk_at dksX12_init_0 12 rfl rfl)
theorem dX12_init_15 : decode cX12_init 15 = .ok (.iconst 1, 1) := dk_4 (dk_at dksX12_init_0 15 rfl rfl)
theorem dX12_init_16 : decode cX12_init 16 = .ok (.iadd, 1) := dk_96 (dk_at dksX12_init_0 16 rfl rfl)
theorem dX12_init_17 : decode cX12_init 17 = .ok (.invokespecial 7, 3) := dk_183 0 7 (dk_at dksX12_init_0 17 rfl rfl)
theorem dX12_init_20 : decode cX12_init 20 = .ok (.return_, 1) := dk_177 (dk_at dksX12_init_0 20 rfl rfl)
abbrev cX12_init_2 : ByteArray := prog_3_method_2_code
def yX12_init_2 : MethodName := ⟨RX12, "<init>", "(ILCreditBroker$Cause;I)V"⟩
def dkwX12_init_2_0 : List UInt8 := [42, 183, 0, 11, 42, 27, 181, 0, 16, 42, 44, 181, 0, 19, 42, 29, 181, 0, 1, 177]
abbrev dktX12_init_2_0 : List UInt8 := dkwX12_init_2_0 ++ []
theorem dksX12_init_2_0 : cX12_init_2.data.toList.drop 0 = dktX12_init_2_0 := by decide +kernel
theorem dX12_init_2_0 : decode cX12_init_2 0 = .ok (.aload_n 0, 1) := dk_42 (dk_at dksX12_init_2_0 0 rfl rfl)
theorem dX12_init_2_1 : decode cX12_init_2 1 = .ok (.invokespecial 11, 3) := dk_183 0 11 (dk_at dksX12_init_2_0 1 rfl rfl)
theorem dX12_init_2_4 : decode cX12_init_2 4 = .ok (.aload_n 0, 1) := dk_42 (dk_at dksX12_init_2_0 4 rfl rfl)
theorem dX12_init_2_5 : decode cX12_init_2 5 = .ok (.iload_n 1, 1) := dk_27 (dk_at dksX12_init_2_0 5 rfl rfl)
theorem dX12_init_2_6 : decode cX12_init_2 6 = .ok (.putfield 16, 3) := dk_181 0 16 (dk_at dksX12_init_2_0 6 rfl rfl)
theorem dX12_init_2_9 : decode cX12_init_2 9 = .ok (.aload_n 0, 1) := dk_42 (dk_at dksX12_init_2_0 9 rfl rfl)
theorem dX12_init_2_10 : decode cX12_init_2 10 = .ok (.aload_n 2, 1) := dk_44 (dk_at dksX12_init_2_0 10 rfl rfl)
theorem dX12_init_2_11 : decode cX12_init_2 11 = .ok (.putfield 19, 3) := dk_181 0 19 (dk_at dksX12_init_2_0 11 rfl rfl)
theorem dX12_init_2_14 : decode cX12_init_2 14 = .ok (.aload_n 0, 1) := dk_42 (dk_at dksX12_init_2_0 14 rfl rfl)
theorem dX12_init_2_15 : decode cX12_init_2 15 = .ok (.iload_n 3, 1) := dk_29 (dk_at dksX12_init_2_0 15 rfl rfl)
theorem dX12_init_2_16 : decode cX12_init_2 16 = .ok (.putfield 1, 3) := dk_181 0 1 (dk_at dksX12_init_2_0 16 rfl rfl)
theorem dX12_init_2_19 : decode cX12_init_2 19 = .ok (.return_, 1) := dk_177 (dk_at dksX12_init_2_0 19 rfl rfl)
theorem q139 : (Jvm.Cond.initialized "CreditBroker$Cause") ∈ lw_all := lw_g (lw_at lw_m1 43 rfl) rfl
theorem q533 : (Jvm.Cond.instanceMethod ({ cls := "CreditBroker$Cause", name := "kind", desc := "()I" } : Jvm.MethodName)) ∈ lw_all := lw_g (lw_at lw_m2 197 rfl) rfl
theorem q534 : (Jvm.Cond.sameMethod "CreditBroker$Cause" "CreditBroker$Cause" "kind" "()I") ∈ lw_all := lw_g (lw_at lw_m2 198 rfl) rfl
theorem q544 : (Jvm.Cond.code ({ cls := "CreditBroker$Cause", name := "kind", desc := "()I" } : Jvm.MethodName) prog_3_method_3_code (1 : Nat) (Option.some Jvm.ClassFile.FieldType.int)) ∈ lw_all := lw_g (lw_at lw_m2 208 rfl) rfl
theorem q850 : (Jvm.Cond.instanceMethod ({ cls := "CreditBroker$Cause", name := "depth", desc := "()I" } : Jvm.MethodName)) ∈ lw_all := lw_g (lw_at lw_m4 34 rfl) rfl
theorem q851 : (Jvm.Cond.sameMethod "CreditBroker$Cause" "CreditBroker$Cause" "depth" "()I") ∈ lw_all := lw_g (lw_at lw_m4 35 rfl) rfl
theorem q856 : (Jvm.Cond.code ({ cls := "CreditBroker$Cause", name := "depth", desc := "()I" } : Jvm.MethodName) prog_3_method_4_code (1 : Nat) (Option.some Jvm.ClassFile.FieldType.int)) ∈ lw_all := lw_g (lw_at lw_m4 40 rfl) rfl
theorem q858 : (Jvm.Cond.instanceMethod ({ cls := "CreditBroker$Cause", name := "link", desc := "(I)LCreditBroker$Cause;" } : Jvm.MethodName)) ∈ lw_all := lw_g (lw_at lw_m4 42 rfl) rfl
theorem q859 : (Jvm.Cond.sameMethod "CreditBroker$Cause" "CreditBroker$Cause" "link" "(I)LCreditBroker$Cause;") ∈ lw_all := lw_g (lw_at lw_m4 43 rfl) rfl
theorem q864 : (Jvm.Cond.code ({ cls := "CreditBroker$Cause", name := "link", desc := "(I)LCreditBroker$Cause;" } : Jvm.MethodName) prog_3_method_5_code (2 : Nat) (Option.some (Jvm.ClassFile.FieldType.object "CreditBroker$Cause"))) ∈ lw_all := lw_g (lw_at lw_m4 48 rfl) rfl
theorem q865 : (Jvm.Cond.methodLink "CreditBroker$Cause" (23 : Nat) ({ cls := "CreditBroker$Cause", name := "link", desc := "(I)LCreditBroker$Cause;" } : Jvm.MethodName)) ∈ lw_all := lw_g (lw_at lw_m4 49 rfl) rfl
theorem q1615 : (Jvm.Cond.instanceMethod ({ cls := "CreditBroker$Cause", name := "<init>", desc := "(ILCreditBroker$Cause;)V" } : Jvm.MethodName)) ∈ lw_all := lw_g (lw_at lw_m7 79 rfl) rfl
theorem q1616 : (Jvm.Cond.code ({ cls := "CreditBroker$Cause", name := "<init>", desc := "(ILCreditBroker$Cause;)V" } : Jvm.MethodName) prog_3_method_1_code (3 : Nat) (Option.none : Option Jvm.ClassFile.FieldType)) ∈ lw_all := lw_g (lw_at lw_m7 80 rfl) rfl
theorem q1617 : (Jvm.Cond.methodLink "CreditBroker$Cause" (7 : Nat) ({ cls := "CreditBroker$Cause", name := "<init>", desc := "(ILCreditBroker$Cause;I)V" } : Jvm.MethodName)) ∈ lw_all := lw_g (lw_at lw_m7 81 rfl) rfl
theorem q1618 : (Jvm.Cond.instanceMethod ({ cls := "CreditBroker$Cause", name := "<init>", desc := "(ILCreditBroker$Cause;I)V" } : Jvm.MethodName)) ∈ lw_all := lw_g (lw_at lw_m7 82 rfl) rfl
theorem q1619 : (Jvm.Cond.code ({ cls := "CreditBroker$Cause", name := "<init>", desc := "(ILCreditBroker$Cause;I)V" } : Jvm.MethodName) prog_3_method_2_code (4 : Nat) (Option.none : Option Jvm.ClassFile.FieldType)) ∈ lw_all := lw_g (lw_at lw_m7 83 rfl) rfl
theorem q1620 : (Jvm.Cond.methodLink "CreditBroker$Cause" (11 : Nat) ({ cls := "java/lang/Object", name := "<init>", desc := "()V" } : Jvm.MethodName)) ∈ lw_all := lw_g (lw_at lw_m7 84 rfl) rfl
theorem q1623 : (Jvm.Cond.fieldLink "CreditBroker$Cause" (16 : Nat) "CreditBroker$Cause" "time" "I") ∈ lw_all := lw_g (lw_at lw_m7 87 rfl) rfl
theorem q1625 : (Jvm.Cond.fieldLink "CreditBroker$Cause" (19 : Nat) "CreditBroker$Cause" "by" "LCreditBroker$Cause;") ∈ lw_all := lw_g (lw_at lw_m7 89 rfl) rfl
theorem q1628 : (Jvm.Cond.fieldLink "CreditBroker$Cause" (1 : Nat) "CreditBroker$Cause" "depth" "I") ∈ lw_all := lw_g (lw_at lw_m7 92 rfl) rfl
theorem q1632 : (Jvm.Cond.soleField "CreditBroker$Cause" "time") ∈ lw_all := lw_g (lw_at lw_m7 96 rfl) rfl
theorem q1634 : (Jvm.Cond.soleField "CreditBroker$Cause" "by") ∈ lw_all := lw_g (lw_at lw_m7 98 rfl) rfl
theorem q1636 : (Jvm.Cond.soleField "CreditBroker$Cause" "depth") ∈ lw_all := lw_g (lw_at lw_m7 100 rfl) rfl
/-! CreditBroker$Loss -/
def RX13 : String := "CreditBroker$Loss"
abbrev cX13_kind : ByteArray := prog_10_method_2_code
def yX13_kind : MethodName := ⟨RX13, "kind", "()I"⟩
def dkwX13_kind_0 : List UInt8 := [42, 183, 0, 7, 5, 96, 172]
abbrev dktX13_kind_0 : List UInt8 := dkwX13_kind_0 ++ []
theorem dksX13_kind_0 : cX13_kind.data.toList.drop 0 = dktX13_kind_0 := by decide +kernel
theorem dX13_kind_0 : decode cX13_kind 0 = .ok (.aload_n 0, 1) := dk_42 (dk_at dksX13_kind_0 0 rfl rfl)
theorem dX13_kind_1 : decode cX13_kind 1 = .ok (.invokespecial 7, 3) := dk_183 0 7 (dk_at dksX13_kind_0 1 rfl rfl)
theorem dX13_kind_4 : decode cX13_kind 4 = .ok (.iconst 2, 1) := dk_5 (dk_at dksX13_kind_0 4 rfl rfl)
theorem dX13_kind_5 : decode cX13_kind 5 = .ok (.iadd, 1) := dk_96 (dk_at dksX13_kind_0 5 rfl rfl)
theorem dX13_kind_6 : decode cX13_kind 6 = .ok (.ireturn, 1) := dk_172 (dk_at dksX13_kind_0 6 rfl rfl)
abbrev cX13_causes : ByteArray := prog_10_method_3_code
def yX13_causes : MethodName := ⟨RX13, "causes", "()I"⟩
def dkwX13_causes_0 : List UInt8 := [42, 180, 0, 11, 184, 0, 17, 172]
abbrev dktX13_causes_0 : List UInt8 := dkwX13_causes_0 ++ []
theorem dksX13_causes_0 : cX13_causes.data.toList.drop 0 = dktX13_causes_0 := by decide +kernel
theorem dX13_causes_0 : decode cX13_causes 0 = .ok (.aload_n 0, 1) := dk_42 (dk_at dksX13_causes_0 0 rfl rfl)
theorem dX13_causes_1 : decode cX13_causes 1 = .ok (.getfield 11, 3) := dk_180 0 11 (dk_at dksX13_causes_0 1 rfl rfl)
theorem dX13_causes_4 : decode cX13_causes 4 = .ok (.invokestatic 17, 3) := dk_184 0 17 (dk_at dksX13_causes_0 4 rfl rfl)
theorem dX13_causes_7 : decode cX13_causes 7 = .ok (.ireturn, 1) := dk_172 (dk_at dksX13_causes_0 7 rfl rfl)
abbrev cX13_init : ByteArray := prog_10_method_1_code
def yX13_init : MethodName := ⟨RX13, "<init>", "(ILCreditBroker$Cause;)V"⟩
def dkwX13_init_0 : List UInt8 := [42, 27, 44, 183, 0, 1, 177]
abbrev dktX13_init_0 : List UInt8 := dkwX13_init_0 ++ []
theorem dksX13_init_0 : cX13_init.data.toList.drop 0 = dktX13_init_0 := by decide +kernel
theorem dX13_init_0 : decode cX13_init 0 = .ok (.aload_n 0, 1) := dk_42 (dk_at dksX13_init_0 0 rfl rfl)
theorem dX13_init_1 : decode cX13_init 1 = .ok (.iload_n 1, 1) := dk_27 (dk_at dksX13_init_0 1 rfl rfl)
theorem dX13_init_2 : decode cX13_init 2 = .ok (.aload_n 2, 1) := dk_44 (dk_at dksX13_init_0 2 rfl rfl)
theorem dX13_init_3 : decode cX13_init 3 = .ok (.invokespecial 1, 3) := dk_183 0 1 (dk_at dksX13_init_0 3 rfl rfl)
theorem dX13_init_6 : decode cX13_init 6 = .ok (.return_, 1) := dk_177 (dk_at dksX13_init_0 6 rfl rfl)
theorem q140 : (Jvm.Cond.initialized "CreditBroker$Loss") ∈ lw_all := lw_g (lw_at lw_m1 44 rfl) rfl
theorem q550 : (Jvm.Cond.instanceMethod ({ cls := "CreditBroker$Loss", name := "kind", desc := "()I" } : Jvm.MethodName)) ∈ lw_all := lw_g (lw_at lw_m2 214 rfl) rfl
theorem q551 : (Jvm.Cond.code ({ cls := "CreditBroker$Loss", name := "kind", desc := "()I" } : Jvm.MethodName) prog_10_method_2_code (1 : Nat) (Option.some Jvm.ClassFile.FieldType.int)) ∈ lw_all := lw_g (lw_at lw_m2 215 rfl) rfl
theorem q552 : (Jvm.Cond.methodLink "CreditBroker$Loss" (7 : Nat) ({ cls := "CreditBroker$Cause", name := "kind", desc := "()I" } : Jvm.MethodName)) ∈ lw_all := lw_g (lw_at lw_m2 216 rfl) rfl
theorem q553 : (Jvm.Cond.superclass "CreditBroker$Loss" "CreditBroker$Cause") ∈ lw_all := lw_g (lw_at lw_m2 217 rfl) rfl
theorem q887 : (Jvm.Cond.instanceMethod ({ cls := "CreditBroker$Loss", name := "causes", desc := "()I" } : Jvm.MethodName)) ∈ lw_all := lw_g (lw_at lw_m4 71 rfl) rfl
theorem q888 : (Jvm.Cond.sameMethod "CreditBroker$Loss" "CreditBroker$Loss" "causes" "()I") ∈ lw_all := lw_g (lw_at lw_m4 72 rfl) rfl
theorem q891 : (Jvm.Cond.code ({ cls := "CreditBroker$Loss", name := "causes", desc := "()I" } : Jvm.MethodName) prog_10_method_3_code (1 : Nat) (Option.some Jvm.ClassFile.FieldType.int)) ∈ lw_all := lw_g (lw_at lw_m4 75 rfl) rfl
theorem q892 : (Jvm.Cond.methodLinkNest "CreditBroker$Loss" (17 : Nat) ({ cls := "CreditBroker", name := "depthOf", desc := "(LCreditBroker$Cause;)I" } : Jvm.MethodName) "CreditBroker") ∈ lw_tbl := lw_at lw_m4 76 rfl
theorem q1612 : (Jvm.Cond.instanceMethod ({ cls := "CreditBroker$Loss", name := "<init>", desc := "(ILCreditBroker$Cause;)V" } : Jvm.MethodName)) ∈ lw_all := lw_g (lw_at lw_m7 76 rfl) rfl
theorem q1613 : (Jvm.Cond.code ({ cls := "CreditBroker$Loss", name := "<init>", desc := "(ILCreditBroker$Cause;)V" } : Jvm.MethodName) prog_10_method_1_code (3 : Nat) (Option.none : Option Jvm.ClassFile.FieldType)) ∈ lw_all := lw_g (lw_at lw_m7 77 rfl) rfl
theorem q1614 : (Jvm.Cond.methodLink "CreditBroker$Loss" (1 : Nat) ({ cls := "CreditBroker$Cause", name := "<init>", desc := "(ILCreditBroker$Cause;)V" } : Jvm.MethodName)) ∈ lw_all := lw_g (lw_at lw_m7 78 rfl) rfl
theorem q1626 : (Jvm.Cond.fieldLink "CreditBroker$Loss" (11 : Nat) "CreditBroker$Loss" "by" "LCreditBroker$Cause;") ∈ lw_all := lw_g (lw_at lw_m7 90 rfl) rfl
theorem q1627 : (Jvm.Cond.sameField "CreditBroker$Loss" "CreditBroker$Cause" "by" "LCreditBroker$Cause;") ∈ lw_all := lw_g (lw_at lw_m7 91 rfl) rfl
theorem q3288 : (Jvm.Cond.sameMethod "CreditBroker$Loss" "CreditBroker$Loss" "kind" "()I") ∈ lw_all := lw_g (lw_at lw_m14 72 rfl) rfl
/-! CreditBroker$Overfull -/
def RX14 : String := "CreditBroker$Overfull"
def TX14 : u_T := fun k => match k with
  | 0 => ("CreditBroker$Cause", "time", "I", true)
  | 1 => ("CreditBroker$Cause", "by", "LCreditBroker$Cause;", true)
  | 2 => ("CreditBroker$Cause", "depth", "I", true)
  | _ => ("CreditBroker$Overfull", "limit", "I", true)
def tyX14 : Nat → FieldType := fun k => match k with
  | 0 => .int
  | 1 => .object "CreditBroker$Cause"
  | 2 => .int
  | _ => .int
abbrev wsX140 : List Cond := u_ws RX14 TX14 4
theorem nmX14 : ∀ a, a < 4 → ∀ b, b < 4 → a ≠ b → (TX14 a).2.1 ≠ (TX14 b).2.1 := by decide +kernel
theorem tyX14_ok : ∀ k, k < 4 → parseFieldDescriptor (TX14 k).2.2.1 = some (tyX14 k) := by decide +kernel
abbrev cX14_kind : ByteArray := prog_13_method_2_code
def yX14_kind : MethodName := ⟨RX14, "kind", "()I"⟩
def dkwX14_kind_0 : List UInt8 := [42, 183, 0, 13, 7, 96, 172]
abbrev dktX14_kind_0 : List UInt8 := dkwX14_kind_0 ++ []
theorem dksX14_kind_0 : cX14_kind.data.toList.drop 0 = dktX14_kind_0 := by decide +kernel
theorem dX14_kind_0 : decode cX14_kind 0 = .ok (.aload_n 0, 1) := dk_42 (dk_at dksX14_kind_0 0 rfl rfl)
theorem dX14_kind_1 : decode cX14_kind 1 = .ok (.invokespecial 13, 3) := dk_183 0 13 (dk_at dksX14_kind_0 1 rfl rfl)
theorem dX14_kind_4 : decode cX14_kind 4 = .ok (.iconst 4, 1) := dk_7 (dk_at dksX14_kind_0 4 rfl rfl)
theorem dX14_kind_5 : decode cX14_kind 5 = .ok (.iadd, 1) := dk_96 (dk_at dksX14_kind_0 5 rfl rfl)
theorem dX14_kind_6 : decode cX14_kind 6 = .ok (.ireturn, 1) := dk_172 (dk_at dksX14_kind_0 6 rfl rfl)
abbrev cX14_limit : ByteArray := prog_13_method_3_code
def yX14_limit : MethodName := ⟨RX14, "limit", "()I"⟩
theorem dX14_limit_0 : decode cX14_limit 0 = .ok (.aload_n 0, 1) := by decide +kernel
theorem dX14_limit_1 : decode cX14_limit 1 = .ok (.getfield 7, 3) := by decide +kernel
theorem dX14_limit_4 : decode cX14_limit 4 = .ok (.ireturn, 1) := by decide +kernel
abbrev cX14_init : ByteArray := prog_13_method_1_code
def yX14_init : MethodName := ⟨RX14, "<init>", "(II)V"⟩
def dkwX14_init_0 : List UInt8 := [42, 27, 1, 183, 0, 1, 42, 28, 181, 0, 7, 177]
abbrev dktX14_init_0 : List UInt8 := dkwX14_init_0 ++ []
theorem dksX14_init_0 : cX14_init.data.toList.drop 0 = dktX14_init_0 := by decide +kernel
theorem dX14_init_0 : decode cX14_init 0 = .ok (.aload_n 0, 1) := dk_42 (dk_at dksX14_init_0 0 rfl rfl)
theorem dX14_init_1 : decode cX14_init 1 = .ok (.iload_n 1, 1) := dk_27 (dk_at dksX14_init_0 1 rfl rfl)
theorem dX14_init_2 : decode cX14_init 2 = .ok (.aconst_null, 1) := dk_1 (dk_at dksX14_init_0 2 rfl rfl)
theorem dX14_init_3 : decode cX14_init 3 = .ok (.invokespecial 1, 3) := dk_183 0 1 (dk_at dksX14_init_0 3 rfl rfl)
theorem dX14_init_6 : decode cX14_init 6 = .ok (.aload_n 0, 1) := dk_42 (dk_at dksX14_init_0 6 rfl rfl)
theorem dX14_init_7 : decode cX14_init 7 = .ok (.iload_n 2, 1) := dk_28 (dk_at dksX14_init_0 7 rfl rfl)
theorem dX14_init_8 : decode cX14_init 8 = .ok (.putfield 7, 3) := dk_181 0 7 (dk_at dksX14_init_0 8 rfl rfl)
theorem dX14_init_11 : decode cX14_init 11 = .ok (.return_, 1) := dk_177 (dk_at dksX14_init_0 11 rfl rfl)
theorem q141 : (Jvm.Cond.initialized "CreditBroker$Overfull") ∈ lw_all := lw_g (lw_at lw_m1 45 rfl) rfl
theorem q554 : (Jvm.Cond.selects "CreditBroker$Overfull" ({ cls := "CreditBroker$Cause", name := "kind", desc := "()I" } : Jvm.MethodName) ({ cls := "CreditBroker$Overfull", name := "kind", desc := "()I" } : Jvm.MethodName)) ∈ lw_all := lw_g (lw_at lw_m2 218 rfl) rfl
theorem q555 : (Jvm.Cond.instanceMethod ({ cls := "CreditBroker$Overfull", name := "kind", desc := "()I" } : Jvm.MethodName)) ∈ lw_all := lw_g (lw_at lw_m2 219 rfl) rfl
theorem q556 : (Jvm.Cond.code ({ cls := "CreditBroker$Overfull", name := "kind", desc := "()I" } : Jvm.MethodName) prog_13_method_2_code (1 : Nat) (Option.some Jvm.ClassFile.FieldType.int)) ∈ lw_all := lw_g (lw_at lw_m2 220 rfl) rfl
theorem q557 : (Jvm.Cond.methodLink "CreditBroker$Overfull" (13 : Nat) ({ cls := "CreditBroker$Loss", name := "kind", desc := "()I" } : Jvm.MethodName)) ∈ lw_all := lw_g (lw_at lw_m2 221 rfl) rfl
theorem q558 : (Jvm.Cond.superclass "CreditBroker$Overfull" "CreditBroker$Loss") ∈ lw_all := lw_g (lw_at lw_m2 222 rfl) rfl
theorem q854 : (Jvm.Cond.selects "CreditBroker$Overfull" ({ cls := "CreditBroker$Cause", name := "depth", desc := "()I" } : Jvm.MethodName) ({ cls := "CreditBroker$Cause", name := "depth", desc := "()I" } : Jvm.MethodName)) ∈ lw_all := lw_g (lw_at lw_m4 38 rfl) rfl
theorem q862 : (Jvm.Cond.selects "CreditBroker$Overfull" ({ cls := "CreditBroker$Cause", name := "link", desc := "(I)LCreditBroker$Cause;" } : Jvm.MethodName) ({ cls := "CreditBroker$Cause", name := "link", desc := "(I)LCreditBroker$Cause;" } : Jvm.MethodName)) ∈ lw_all := lw_g (lw_at lw_m4 46 rfl) rfl
theorem q890 : (Jvm.Cond.selects "CreditBroker$Overfull" ({ cls := "CreditBroker$Loss", name := "causes", desc := "()I" } : Jvm.MethodName) ({ cls := "CreditBroker$Loss", name := "causes", desc := "()I" } : Jvm.MethodName)) ∈ lw_all := lw_g (lw_at lw_m4 74 rfl) rfl
theorem q912 : (Jvm.Cond.instanceMethod ({ cls := "CreditBroker$Overfull", name := "limit", desc := "()I" } : Jvm.MethodName)) ∈ lw_all := lw_g (lw_at lw_m4 96 rfl) rfl
theorem q913 : (Jvm.Cond.selects "CreditBroker$Overfull" ({ cls := "CreditBroker$Overfull", name := "limit", desc := "()I" } : Jvm.MethodName) ({ cls := "CreditBroker$Overfull", name := "limit", desc := "()I" } : Jvm.MethodName)) ∈ lw_all := lw_g (lw_at lw_m4 97 rfl) rfl
theorem q914 : (Jvm.Cond.code ({ cls := "CreditBroker$Overfull", name := "limit", desc := "()I" } : Jvm.MethodName) prog_13_method_3_code (1 : Nat) (Option.some Jvm.ClassFile.FieldType.int)) ∈ lw_all := lw_g (lw_at lw_m4 98 rfl) rfl
theorem q1071 : (Jvm.Cond.selects "CreditBroker$Overfull" ({ cls := "java/lang/Object", name := "getClass", desc := "()Ljava/lang/Class;" } : Jvm.MethodName) ({ cls := "java/lang/Object", name := "getClass", desc := "()Ljava/lang/Class;" } : Jvm.MethodName)) ∈ lw_all := lw_g (lw_at lw_m5 15 rfl) rfl
theorem q1607 : (Jvm.Cond.instantiable "CreditBroker$Overfull" (4 : Nat)) ∈ lw_all := lw_g (lw_at lw_m7 71 rfl) rfl
theorem q1609 : (Jvm.Cond.instanceMethod ({ cls := "CreditBroker$Overfull", name := "<init>", desc := "(II)V" } : Jvm.MethodName)) ∈ lw_all := lw_g (lw_at lw_m7 73 rfl) rfl
theorem q1610 : (Jvm.Cond.code ({ cls := "CreditBroker$Overfull", name := "<init>", desc := "(II)V" } : Jvm.MethodName) prog_13_method_1_code (3 : Nat) (Option.none : Option Jvm.ClassFile.FieldType)) ∈ lw_all := lw_g (lw_at lw_m7 74 rfl) rfl
theorem q1611 : (Jvm.Cond.methodLink "CreditBroker$Overfull" (1 : Nat) ({ cls := "CreditBroker$Loss", name := "<init>", desc := "(ILCreditBroker$Cause;)V" } : Jvm.MethodName)) ∈ lw_all := lw_g (lw_at lw_m7 75 rfl) rfl
theorem q1621 : (Jvm.Cond.fieldLink "CreditBroker$Overfull" (7 : Nat) "CreditBroker$Overfull" "limit" "I") ∈ lw_all := lw_g (lw_at lw_m7 85 rfl) rfl
theorem q1629 : (Jvm.Cond.laysFinal "CreditBroker$Overfull" "CreditBroker$Overfull" "limit" "I") ∈ lw_all := lw_g (lw_at lw_m7 93 rfl) rfl
theorem q1630 : (Jvm.Cond.soleField "CreditBroker$Overfull" "limit") ∈ lw_all := lw_g (lw_at lw_m7 94 rfl) rfl
theorem q1631 : (Jvm.Cond.laysFinal "CreditBroker$Overfull" "CreditBroker$Cause" "time" "I") ∈ lw_all := lw_g (lw_at lw_m7 95 rfl) rfl
theorem q1633 : (Jvm.Cond.laysFinal "CreditBroker$Overfull" "CreditBroker$Cause" "by" "LCreditBroker$Cause;") ∈ lw_all := lw_g (lw_at lw_m7 97 rfl) rfl
theorem q1635 : (Jvm.Cond.laysFinal "CreditBroker$Overfull" "CreditBroker$Cause" "depth" "I") ∈ lw_all := lw_g (lw_at lw_m7 99 rfl) rfl
theorem q1815 : (Jvm.Cond.selects "CreditBroker$Overfull" ({ cls := "java/lang/Object", name := "equals", desc := "(Ljava/lang/Object;)Z" } : Jvm.MethodName) ({ cls := "java/lang/Object", name := "equals", desc := "(Ljava/lang/Object;)Z" } : Jvm.MethodName)) ∈ lw_all := lw_g (lw_at lw_m8 39 rfl) rfl
theorem q3305 : (Jvm.Cond.castable "CreditBroker$Overfull" "CreditBroker$Cause") ∈ lw_tbl := lw_at lw_m14 89 rfl
theorem q3310 : (Jvm.Cond.castable "CreditBroker$Overfull" "CreditBroker$Loss") ∈ lw_tbl := lw_at lw_m14 94 rfl
theorem q3334 : (Jvm.Cond.castable "CreditBroker$Overfull" "java/lang/Object") ∈ lw_tbl := lw_at lw_m14 118 rfl
theorem in_X14 : ∀ w ∈ wsX140, w ∈ lw_all := lw_in wsX140 [1631, 1633, 1635, 1629] (by decide +kernel) (by decide +kernel)
/-! CreditBroker$Corpse -/
def RX15 : String := "CreditBroker$Corpse"
def TX15 : u_T := fun k => match k with
  | 0 => ("CreditBroker$Corpse", "message", "LCreditBroker$Message;", true)
  | 1 => ("CreditBroker$Corpse", "queue", "I", true)
  | 2 => ("CreditBroker$Corpse", "time", "I", true)
  | _ => ("CreditBroker$Corpse", "cause", "LCreditBroker$Cause;", true)
def tyX15 : Nat → FieldType := fun k => match k with
  | 0 => .object "CreditBroker$Message"
  | 1 => .int
  | 2 => .int
  | _ => .object "CreditBroker$Cause"
abbrev wsX150 : List Cond := u_ws RX15 TX15 4
theorem nmX15 : ∀ a, a < 4 → ∀ b, b < 4 → a ≠ b → (TX15 a).2.1 ≠ (TX15 b).2.1 := by decide +kernel
theorem tyX15_ok : ∀ k, k < 4 → parseFieldDescriptor (TX15 k).2.2.1 = some (tyX15 k) := by decide +kernel
abbrev cX15_init : ByteArray := prog_5_method_1_code
def yX15_init : MethodName := ⟨RX15, "<init>", "(LCreditBroker$Message;ILCreditBroker$Cause;)V"⟩
def dkwX15_init_1 : List UInt8 := [181, 0, 26, 177]
abbrev dktX15_init_1 : List UInt8 := dkwX15_init_1 ++ []
def dkwX15_init_0 : List UInt8 := [42, 183, 0, 1, 42, 43, 181, 0, 7, 42, 28, 181, 0, 13, 42, 45, 181, 0, 17, 42, 45, 180, 0, 21]
abbrev dktX15_init_0 : List UInt8 := dkwX15_init_0 ++ dktX15_init_1
theorem dksX15_init_0 : cX15_init.data.toList.drop 0 = dktX15_init_0 := by decide +kernel
theorem dksX15_init_1 : cX15_init.data.toList.drop 24 = dktX15_init_1 := dk_seg dksX15_init_0 24 rfl rfl
theorem dX15_init_0 : decode cX15_init 0 = .ok (.aload_n 0, 1) := dk_42 (dk_at dksX15_init_0 0 rfl rfl)
theorem dX15_init_1 : decode cX15_init 1 = .ok (.invokespecial 1, 3) := dk_183 0 1 (dk_at dksX15_init_0 1 rfl rfl)
theorem dX15_init_4 : decode cX15_init 4 = .ok (.aload_n 0, 1) := dk_42 (dk_at dksX15_init_0 4 rfl rfl)
theorem dX15_init_5 : decode cX15_init 5 = .ok (.aload_n 1, 1) := dk_43 (dk_at dksX15_init_0 5 rfl rfl)
theorem dX15_init_6 : decode cX15_init 6 = .ok (.putfield 7, 3) := dk_181 0 7 (dk_at dksX15_init_0 6 rfl rfl)
theorem dX15_init_9 : decode cX15_init 9 = .ok (.aload_n 0, 1) := dk_42 (dk_at dksX15_init_0 9 rfl rfl)
theorem dX15_init_10 : decode cX15_init 10 = .ok (.iload_n 2, 1) := dk_28 (dk_at dksX15_init_0 10 rfl rfl)
theorem dX15_init_11 : decode cX15_init 11 = .ok (.putfield 13, 3) := dk_181 0 13 (dk_at dksX15_init_0 11 rfl rfl)
theorem dX15_init_14 : decode cX15_init 14 = .ok (.aload_n 0, 1) := dk_42 (dk_at dksX15_init_0 14 rfl rfl)
theorem dX15_init_15 : decode cX15_init 15 = .ok (.aload_n 3, 1) := dk_45 (dk_at dksX15_init_0 15 rfl rfl)
theorem dX15_init_16 : decode cX15_init 16 = .ok (.putfield 17, 3) := dk_181 0 17 (dk_at dksX15_init_0 16 rfl rfl)
theorem dX15_init_19 : decode cX15_init 19 = .ok (.aload_n 0, 1) := dk_42 (dk_at dksX15_init_0 19 rfl rfl)
theorem dX15_init_20 : decode cX15_init 20 = .ok (.aload_n 3, 1) := dk_45 (dk_at dksX15_init_0 20 rfl rfl)
theorem dX15_init_21 : decode cX15_init 21 = .ok (.getfield 21, 3) := dk_180 0 21 (dk_at dksX15_init_0 21 rfl rfl)
theorem dX15_init_24 : decode cX15_init 24 = .ok (.putfield 26, 3) := dk_181 0 26 (dk_at dksX15_init_1 0 rfl rfl)
theorem dX15_init_27 : decode cX15_init 27 = .ok (.return_, 1) := dk_177 (dk_at dksX15_init_1 3 rfl rfl)
theorem q142 : (Jvm.Cond.initialized "CreditBroker$Corpse") ∈ lw_all := lw_g (lw_at lw_m1 46 rfl) rfl
theorem q1065 : (Jvm.Cond.selects "CreditBroker$Corpse" ({ cls := "java/lang/Object", name := "getClass", desc := "()Ljava/lang/Class;" } : Jvm.MethodName) ({ cls := "java/lang/Object", name := "getClass", desc := "()Ljava/lang/Class;" } : Jvm.MethodName)) ∈ lw_all := lw_g (lw_at lw_m5 9 rfl) rfl
theorem q1622 : (Jvm.Cond.fieldLink "CreditBroker$Corpse" (21 : Nat) "CreditBroker$Cause" "time" "I") ∈ lw_all := lw_g (lw_at lw_m7 86 rfl) rfl
theorem q1642 : (Jvm.Cond.instantiable "CreditBroker$Corpse" (4 : Nat)) ∈ lw_all := lw_g (lw_at lw_m7 106 rfl) rfl
theorem q1644 : (Jvm.Cond.instanceMethod ({ cls := "CreditBroker$Corpse", name := "<init>", desc := "(LCreditBroker$Message;ILCreditBroker$Cause;)V" } : Jvm.MethodName)) ∈ lw_all := lw_g (lw_at lw_m7 108 rfl) rfl
theorem q1645 : (Jvm.Cond.code ({ cls := "CreditBroker$Corpse", name := "<init>", desc := "(LCreditBroker$Message;ILCreditBroker$Cause;)V" } : Jvm.MethodName) prog_5_method_1_code (4 : Nat) (Option.none : Option Jvm.ClassFile.FieldType)) ∈ lw_all := lw_g (lw_at lw_m7 109 rfl) rfl
theorem q1646 : (Jvm.Cond.methodLink "CreditBroker$Corpse" (1 : Nat) ({ cls := "java/lang/Object", name := "<init>", desc := "()V" } : Jvm.MethodName)) ∈ lw_all := lw_g (lw_at lw_m7 110 rfl) rfl
theorem q1647 : (Jvm.Cond.fieldLink "CreditBroker$Corpse" (7 : Nat) "CreditBroker$Corpse" "message" "LCreditBroker$Message;") ∈ lw_all := lw_g (lw_at lw_m7 111 rfl) rfl
theorem q1649 : (Jvm.Cond.fieldLink "CreditBroker$Corpse" (13 : Nat) "CreditBroker$Corpse" "queue" "I") ∈ lw_all := lw_g (lw_at lw_m7 113 rfl) rfl
theorem q1651 : (Jvm.Cond.fieldLink "CreditBroker$Corpse" (26 : Nat) "CreditBroker$Corpse" "time" "I") ∈ lw_all := lw_g (lw_at lw_m7 115 rfl) rfl
theorem q1653 : (Jvm.Cond.fieldLink "CreditBroker$Corpse" (17 : Nat) "CreditBroker$Corpse" "cause" "LCreditBroker$Cause;") ∈ lw_all := lw_g (lw_at lw_m7 117 rfl) rfl
theorem q1655 : (Jvm.Cond.laysFinal "CreditBroker$Corpse" "CreditBroker$Corpse" "message" "LCreditBroker$Message;") ∈ lw_all := lw_g (lw_at lw_m7 119 rfl) rfl
theorem q1656 : (Jvm.Cond.soleField "CreditBroker$Corpse" "message") ∈ lw_all := lw_g (lw_at lw_m7 120 rfl) rfl
theorem q1657 : (Jvm.Cond.laysFinal "CreditBroker$Corpse" "CreditBroker$Corpse" "queue" "I") ∈ lw_all := lw_g (lw_at lw_m7 121 rfl) rfl
theorem q1658 : (Jvm.Cond.soleField "CreditBroker$Corpse" "queue") ∈ lw_all := lw_g (lw_at lw_m7 122 rfl) rfl
theorem q1659 : (Jvm.Cond.laysFinal "CreditBroker$Corpse" "CreditBroker$Corpse" "time" "I") ∈ lw_all := lw_g (lw_at lw_m7 123 rfl) rfl
theorem q1660 : (Jvm.Cond.soleField "CreditBroker$Corpse" "time") ∈ lw_all := lw_g (lw_at lw_m7 124 rfl) rfl
theorem q1661 : (Jvm.Cond.laysFinal "CreditBroker$Corpse" "CreditBroker$Corpse" "cause" "LCreditBroker$Cause;") ∈ lw_all := lw_g (lw_at lw_m7 125 rfl) rfl
theorem q1662 : (Jvm.Cond.soleField "CreditBroker$Corpse" "cause") ∈ lw_all := lw_g (lw_at lw_m7 126 rfl) rfl
theorem q1663 : (Jvm.Cond.superclass "CreditBroker$Corpse" "java/lang/Object") ∈ lw_all := lw_g (lw_at lw_m7 127 rfl) rfl
theorem q1809 : (Jvm.Cond.selects "CreditBroker$Corpse" ({ cls := "java/lang/Object", name := "equals", desc := "(Ljava/lang/Object;)Z" } : Jvm.MethodName) ({ cls := "java/lang/Object", name := "equals", desc := "(Ljava/lang/Object;)Z" } : Jvm.MethodName)) ∈ lw_all := lw_g (lw_at lw_m8 33 rfl) rfl
theorem q3335 : (Jvm.Cond.castable "CreditBroker$Corpse" "java/lang/Object") ∈ lw_tbl := lw_at lw_m14 119 rfl
theorem in_X15 : ∀ w ∈ wsX150, w ∈ lw_all := lw_in wsX150 [1655, 1657, 1659, 1661] (by decide +kernel) (by decide +kernel)
/-! CreditBroker$Letter -/
def RX16 : String := "CreditBroker$Letter"
def TX16 : u_T := fun k => match k with
  | 0 => ("CreditBroker$Letter", "message", "LCreditBroker$Message;", true)
  | 1 => ("CreditBroker$Letter", "state", "I", false)
  | 2 => ("CreditBroker$Letter", "till", "I", false)
  | 3 => ("CreditBroker$Letter", "failed", "I", false)
  | 4 => ("CreditBroker$Letter", "consumer", "I", false)
  | _ => ("CreditBroker$Letter", "cause", "LCreditBroker$Cause;", false)
def tyX16 : Nat → FieldType := fun k => match k with
  | 0 => .object "CreditBroker$Message"
  | 1 => .int
  | 2 => .int
  | 3 => .int
  | 4 => .int
  | _ => .object "CreditBroker$Cause"
abbrev wsX160 : List Cond := u_ws RX16 TX16 6
theorem nmX16 : ∀ a, a < 6 → ∀ b, b < 6 → a ≠ b → (TX16 a).2.1 ≠ (TX16 b).2.1 := by decide +kernel
theorem tyX16_ok : ∀ k, k < 6 → parseFieldDescriptor (TX16 k).2.2.1 = some (tyX16 k) := by decide +kernel
abbrev cX16_isHeldBy : ByteArray := prog_9_method_5_code
def yX16_isHeldBy : MethodName := ⟨RX16, "isHeldBy", "(I)Z"⟩
def dkwX16_isHeldBy_0 : List UInt8 := [42, 180, 0, 9, 5, 160, 0, 15, 42, 180, 0, 18, 27, 160, 0, 7, 4, 167, 0, 4, 3, 172]
abbrev dktX16_isHeldBy_0 : List UInt8 := dkwX16_isHeldBy_0 ++ []
theorem dksX16_isHeldBy_0 : cX16_isHeldBy.data.toList.drop 0 = dktX16_isHeldBy_0 := by decide +kernel
theorem dX16_isHeldBy_0 : decode cX16_isHeldBy 0 = .ok (.aload_n 0, 1) := dk_42 (dk_at dksX16_isHeldBy_0 0 rfl rfl)
theorem dX16_isHeldBy_1 : decode cX16_isHeldBy 1 = .ok (.getfield 9, 3) := dk_180 0 9 (dk_at dksX16_isHeldBy_0 1 rfl rfl)
theorem dX16_isHeldBy_4 : decode cX16_isHeldBy 4 = .ok (.iconst 2, 1) := dk_5 (dk_at dksX16_isHeldBy_0 4 rfl rfl)
theorem dX16_isHeldBy_5 : decode cX16_isHeldBy 5 = .ok (.if_icmp .ne 15, 3) := dk_160 0 15 (dk_at dksX16_isHeldBy_0 5 rfl rfl)
theorem dX16_isHeldBy_8 : decode cX16_isHeldBy 8 = .ok (.aload_n 0, 1) := dk_42 (dk_at dksX16_isHeldBy_0 8 rfl rfl)
theorem dX16_isHeldBy_9 : decode cX16_isHeldBy 9 = .ok (.getfield 18, 3) := dk_180 0 18 (dk_at dksX16_isHeldBy_0 9 rfl rfl)
theorem dX16_isHeldBy_12 : decode cX16_isHeldBy 12 = .ok (.iload_n 1, 1) := dk_27 (dk_at dksX16_isHeldBy_0 12 rfl rfl)
theorem dX16_isHeldBy_13 : decode cX16_isHeldBy 13 = .ok (.if_icmp .ne 7, 3) := dk_160 0 7 (dk_at dksX16_isHeldBy_0 13 rfl rfl)
theorem dX16_isHeldBy_16 : decode cX16_isHeldBy 16 = .ok (.iconst 1, 1) := dk_4 (dk_at dksX16_isHeldBy_0 16 rfl rfl)
theorem dX16_isHeldBy_17 : decode cX16_isHeldBy 17 = .ok (.goto 4, 3) := dk_167 0 4 (dk_at dksX16_isHeldBy_0 17 rfl rfl)
theorem dX16_isHeldBy_20 : decode cX16_isHeldBy 20 = .ok (.iconst 0, 1) := dk_3 (dk_at dksX16_isHeldBy_0 20 rfl rfl)
theorem dX16_isHeldBy_21 : decode cX16_isHeldBy 21 = .ok (.ireturn, 1) := dk_172 (dk_at dksX16_isHeldBy_0 21 rfl rfl)
abbrev cX16_readies : ByteArray := prog_9_method_4_code
def yX16_readies : MethodName := ⟨RX16, "readies", "()V"⟩
def dkwX16_readies_0 : List UInt8 := [42, 3, 2, 2, 182, 0, 35, 177]
abbrev dktX16_readies_0 : List UInt8 := dkwX16_readies_0 ++ []
theorem dksX16_readies_0 : cX16_readies.data.toList.drop 0 = dktX16_readies_0 := by decide +kernel
theorem dX16_readies_0 : decode cX16_readies 0 = .ok (.aload_n 0, 1) := dk_42 (dk_at dksX16_readies_0 0 rfl rfl)
theorem dX16_readies_1 : decode cX16_readies 1 = .ok (.iconst 0, 1) := dk_3 (dk_at dksX16_readies_0 1 rfl rfl)
theorem dX16_readies_2 : decode cX16_readies 2 = .ok (.iconst (-1), 1) := dk_2 (dk_at dksX16_readies_0 2 rfl rfl)
theorem dX16_readies_3 : decode cX16_readies 3 = .ok (.iconst (-1), 1) := dk_2 (dk_at dksX16_readies_0 3 rfl rfl)
theorem dX16_readies_4 : decode cX16_readies 4 = .ok (.invokevirtual 35, 3) := dk_182 0 35 (dk_at dksX16_readies_0 4 rfl rfl)
theorem dX16_readies_7 : decode cX16_readies 7 = .ok (.return_, 1) := dk_177 (dk_at dksX16_readies_0 7 rfl rfl)
abbrev cX16_becomes : ByteArray := prog_9_method_3_code
def yX16_becomes : MethodName := ⟨RX16, "becomes", "(III)V"⟩
def dkwX16_becomes_0 : List UInt8 := [42, 27, 181, 0, 9, 42, 28, 181, 0, 15, 42, 29, 181, 0, 18, 177]
abbrev dktX16_becomes_0 : List UInt8 := dkwX16_becomes_0 ++ []
theorem dksX16_becomes_0 : cX16_becomes.data.toList.drop 0 = dktX16_becomes_0 := by decide +kernel
theorem dX16_becomes_0 : decode cX16_becomes 0 = .ok (.aload_n 0, 1) := dk_42 (dk_at dksX16_becomes_0 0 rfl rfl)
theorem dX16_becomes_1 : decode cX16_becomes 1 = .ok (.iload_n 1, 1) := dk_27 (dk_at dksX16_becomes_0 1 rfl rfl)
theorem dX16_becomes_2 : decode cX16_becomes 2 = .ok (.putfield 9, 3) := dk_181 0 9 (dk_at dksX16_becomes_0 2 rfl rfl)
theorem dX16_becomes_5 : decode cX16_becomes 5 = .ok (.aload_n 0, 1) := dk_42 (dk_at dksX16_becomes_0 5 rfl rfl)
theorem dX16_becomes_6 : decode cX16_becomes 6 = .ok (.iload_n 2, 1) := dk_28 (dk_at dksX16_becomes_0 6 rfl rfl)
theorem dX16_becomes_7 : decode cX16_becomes 7 = .ok (.putfield 15, 3) := dk_181 0 15 (dk_at dksX16_becomes_0 7 rfl rfl)
theorem dX16_becomes_10 : decode cX16_becomes 10 = .ok (.aload_n 0, 1) := dk_42 (dk_at dksX16_becomes_0 10 rfl rfl)
theorem dX16_becomes_11 : decode cX16_becomes 11 = .ok (.iload_n 3, 1) := dk_29 (dk_at dksX16_becomes_0 11 rfl rfl)
theorem dX16_becomes_12 : decode cX16_becomes 12 = .ok (.putfield 18, 3) := dk_181 0 18 (dk_at dksX16_becomes_0 12 rfl rfl)
theorem dX16_becomes_15 : decode cX16_becomes 15 = .ok (.return_, 1) := dk_177 (dk_at dksX16_becomes_0 15 rfl rfl)
abbrev cX16_init : ByteArray := prog_9_method_1_code
def yX16_init : MethodName := ⟨RX16, "<init>", "(LCreditBroker$Message;)V"⟩
def dkwX16_init_1 : List UInt8 := [177]
abbrev dktX16_init_1 : List UInt8 := dkwX16_init_1 ++ []
def dkwX16_init_0 : List UInt8 := [42, 183, 0, 3, 42, 3, 181, 0, 9, 42, 2, 181, 0, 15, 42, 2, 181, 0, 18, 42, 43, 181, 0, 21]
abbrev dktX16_init_0 : List UInt8 := dkwX16_init_0 ++ dktX16_init_1
theorem dksX16_init_0 : cX16_init.data.toList.drop 0 = dktX16_init_0 := by decide +kernel
theorem dksX16_init_1 : cX16_init.data.toList.drop 24 = dktX16_init_1 := dk_seg dksX16_init_0 24 rfl rfl
theorem dX16_init_0 : decode cX16_init 0 = .ok (.aload_n 0, 1) := dk_42 (dk_at dksX16_init_0 0 rfl rfl)
theorem dX16_init_1 : decode cX16_init 1 = .ok (.invokespecial 3, 3) := dk_183 0 3 (dk_at dksX16_init_0 1 rfl rfl)
theorem dX16_init_4 : decode cX16_init 4 = .ok (.aload_n 0, 1) := dk_42 (dk_at dksX16_init_0 4 rfl rfl)
theorem dX16_init_5 : decode cX16_init 5 = .ok (.iconst 0, 1) := dk_3 (dk_at dksX16_init_0 5 rfl rfl)
theorem dX16_init_6 : decode cX16_init 6 = .ok (.putfield 9, 3) := dk_181 0 9 (dk_at dksX16_init_0 6 rfl rfl)
theorem dX16_init_9 : decode cX16_init 9 = .ok (.aload_n 0, 1) := dk_42 (dk_at dksX16_init_0 9 rfl rfl)
theorem dX16_init_10 : decode cX16_init 10 = .ok (.iconst (-1), 1) := dk_2 (dk_at dksX16_init_0 10 rfl rfl)
theorem dX16_init_11 : decode cX16_init 11 = .ok (.putfield 15, 3) := dk_181 0 15 (dk_at dksX16_init_0 11 rfl rfl)
theorem dX16_init_14 : decode cX16_init 14 = .ok (.aload_n 0, 1) := dk_42 (dk_at dksX16_init_0 14 rfl rfl)
theorem dX16_init_15 : decode cX16_init 15 = .ok (.iconst (-1), 1) := dk_2 (dk_at dksX16_init_0 15 rfl rfl)
theorem dX16_init_16 : decode cX16_init 16 = .ok (.putfield 18, 3) := dk_181 0 18 (dk_at dksX16_init_0 16 rfl rfl)
theorem dX16_init_19 : decode cX16_init 19 = .ok (.aload_n 0, 1) := dk_42 (dk_at dksX16_init_0 19 rfl rfl)
theorem dX16_init_20 : decode cX16_init 20 = .ok (.aload_n 1, 1) := dk_43 (dk_at dksX16_init_0 20 rfl rfl)
theorem dX16_init_21 : decode cX16_init 21 = .ok (.putfield 21, 3) := dk_181 0 21 (dk_at dksX16_init_0 21 rfl rfl)
theorem dX16_init_24 : decode cX16_init 24 = .ok (.return_, 1) := dk_177 (dk_at dksX16_init_1 0 rfl rfl)
abbrev cX16_init_2 : ByteArray := prog_9_method_2_code
def yX16_init_2 : MethodName := ⟨RX16, "<init>", "(LCreditBroker$Letter;)V"⟩
def dkwX16_init_2_2 : List UInt8 := [177]
abbrev dktX16_init_2_2 : List UInt8 := dkwX16_init_2_2 ++ []
def dkwX16_init_2_1 : List UInt8 := [42, 43, 180, 0, 28, 181, 0, 28, 42, 43, 180, 0, 18, 181, 0, 18, 42, 43, 180, 0, 31, 181, 0, 31]
abbrev dktX16_init_2_1 : List UInt8 := dkwX16_init_2_1 ++ dktX16_init_2_2
def dkwX16_init_2_0 : List UInt8 := [42, 43, 180, 0, 21, 183, 0, 25, 42, 43, 180, 0, 9, 181, 0, 9, 42, 43, 180, 0, 15, 181, 0, 15]
abbrev dktX16_init_2_0 : List UInt8 := dkwX16_init_2_0 ++ dktX16_init_2_1
theorem dksX16_init_2_0 : cX16_init_2.data.toList.drop 0 = dktX16_init_2_0 := by decide +kernel
theorem dksX16_init_2_1 : cX16_init_2.data.toList.drop 24 = dktX16_init_2_1 := dk_seg dksX16_init_2_0 24 rfl rfl
theorem dksX16_init_2_2 : cX16_init_2.data.toList.drop 48 = dktX16_init_2_2 := dk_seg dksX16_init_2_1 24 rfl rfl
theorem dX16_init_2_0 : decode cX16_init_2 0 = .ok (.aload_n 0, 1) := dk_42 (dk_at dksX16_init_2_0 0 rfl rfl)
theorem dX16_init_2_1 : decode cX16_init_2 1 = .ok (.aload_n 1, 1) := dk_43 (dk_at dksX16_init_2_0 1 rfl rfl)
theorem dX16_init_2_2 : decode cX16_init_2 2 = .ok (.getfield 21, 3) := dk_180 0 21 (dk_at dksX16_init_2_0 2 rfl rfl)
theorem dX16_init_2_5 : decode cX16_init_2 5 = .ok (.invokespecial 25, 3) := dk_183 0 25 (dk_at dksX16_init_2_0 5 rfl rfl)
theorem dX16_init_2_8 : decode cX16_init_2 8 = .ok (.aload_n 0, 1) := dk_42 (dk_at dksX16_init_2_0 8 rfl rfl)
theorem dX16_init_2_9 : decode cX16_init_2 9 = .ok (.aload_n 1, 1) := dk_43 (dk_at dksX16_init_2_0 9 rfl rfl)
theorem dX16_init_2_10 : decode cX16_init_2 10 = .ok (.getfield 9, 3) := dk_180 0 9 (dk_at dksX16_init_2_0 10 rfl rfl)
theorem dX16_init_2_13 : decode cX16_init_2 13 = .ok (.putfield 9, 3) := dk_181 0 9 (dk_at dksX16_init_2_0 13 rfl rfl)
theorem dX16_init_2_16 : decode cX16_init_2 16 = .ok (.aload_n 0, 1) := dk_42 (dk_at dksX16_init_2_0 16 rfl rfl)
theorem dX16_init_2_17 : decode cX16_init_2 17 = .ok (.aload_n 1, 1) := dk_43 (dk_at dksX16_init_2_0 17 rfl rfl)
theorem dX16_init_2_18 : decode cX16_init_2 18 = .ok (.getfield 15, 3) := dk_180 0 15 (dk_at dksX16_init_2_0 18 rfl rfl)
theorem dX16_init_2_21 : decode cX16_init_2 21 = .ok (.putfield 15, 3) := dk_181 0 15 (dk_at dksX16_init_2_0 21 rfl rfl)
theorem dX16_init_2_24 : decode cX16_init_2 24 = .ok (.aload_n 0, 1) := dk_42 (dk_at dksX16_init_2_1 0 rfl rfl)
theorem dX16_init_2_25 : decode cX16_init_2 25 = .ok (.aload_n 1, 1) := dk_43 (dk_at dksX16_init_2_1 1 rfl rfl)
theorem dX16_init_2_26 : decode cX16_init_2 26 = .ok (.getfield 28, 3) := dk_180 0 28 (dk_at dksX16_init_2_1 2 rfl rfl)
theorem dX16_init_2_29 : decode cX16_init_2 29 = .ok (.putfield 28, 3) := dk_181 0 28 (dk_at dksX16_init_2_1 5 rfl rfl)
theorem dX16_init_2_32 : decode cX16_init_2 32 = .ok (.aload_n 0, 1) := dk_42 (dk_at dksX16_init_2_1 8 rfl rfl)
theorem dX16_init_2_33 : decode cX16_init_2 33 = .ok (.aload_n 1, 1) := dk_43 (dk_at dksX16_init_2_1 9 rfl rfl)
theorem dX16_init_2_34 : decode cX16_init_2 34 = .ok (.getfield 18, 3) := dk_180 0 18 (dk_at dksX16_init_2_1 10 rfl rfl)
theorem dX16_init_2_37 : decode cX16_init_2 37 = .ok (.putfield 18, 3) := dk_181 0 18 (dk_at dksX16_init_2_1 13 rfl rfl)
theorem dX16_init_2_40 : decode cX16_init_2 40 = .ok (.aload_n 0, 1) := dk_42 (dk_at dksX16_init_2_1 16 rfl rfl)
theorem dX16_init_2_41 : decode cX16_init_2 41 = .ok (.aload_n 1, 1) := dk_43 (dk_at dksX16_init_2_1 17 rfl rfl)
theorem dX16_init_2_42 : decode cX16_init_2 42 = .ok (.getfield 31, 3) := dk_180 0 31 (dk_at dksX16_init_2_1 18 rfl rfl)
theorem dX16_init_2_45 : decode cX16_init_2 45 = .ok (.putfield 31, 3) := dk_181 0 31 (dk_at dksX16_init_2_1 21 rfl rfl)
theorem dX16_init_2_48 : decode cX16_init_2 48 = .ok (.return_, 1) := dk_177 (dk_at dksX16_init_2_2 0 rfl rfl)
theorem q144 : (Jvm.Cond.initialized "CreditBroker$Letter") ∈ lw_all := lw_g (lw_at lw_m1 48 rfl) rfl
theorem q1068 : (Jvm.Cond.selects "CreditBroker$Letter" ({ cls := "java/lang/Object", name := "getClass", desc := "()Ljava/lang/Class;" } : Jvm.MethodName) ({ cls := "java/lang/Object", name := "getClass", desc := "()Ljava/lang/Class;" } : Jvm.MethodName)) ∈ lw_all := lw_g (lw_at lw_m5 12 rfl) rfl
theorem q1514 : (Jvm.Cond.instanceMethod ({ cls := "CreditBroker$Letter", name := "isHeldBy", desc := "(I)Z" } : Jvm.MethodName)) ∈ lw_all := lw_g (lw_at lw_m6 218 rfl) rfl
theorem q1515 : (Jvm.Cond.selects "CreditBroker$Letter" ({ cls := "CreditBroker$Letter", name := "isHeldBy", desc := "(I)Z" } : Jvm.MethodName) ({ cls := "CreditBroker$Letter", name := "isHeldBy", desc := "(I)Z" } : Jvm.MethodName)) ∈ lw_all := lw_g (lw_at lw_m6 219 rfl) rfl
theorem q1516 : (Jvm.Cond.code ({ cls := "CreditBroker$Letter", name := "isHeldBy", desc := "(I)Z" } : Jvm.MethodName) prog_9_method_5_code (2 : Nat) (Option.some Jvm.ClassFile.FieldType.boolean)) ∈ lw_all := lw_g (lw_at lw_m6 220 rfl) rfl
theorem q1518 : (Jvm.Cond.instanceMethod ({ cls := "CreditBroker$Letter", name := "readies", desc := "()V" } : Jvm.MethodName)) ∈ lw_all := lw_g (lw_at lw_m6 222 rfl) rfl
theorem q1519 : (Jvm.Cond.selects "CreditBroker$Letter" ({ cls := "CreditBroker$Letter", name := "readies", desc := "()V" } : Jvm.MethodName) ({ cls := "CreditBroker$Letter", name := "readies", desc := "()V" } : Jvm.MethodName)) ∈ lw_all := lw_g (lw_at lw_m6 223 rfl) rfl
theorem q1520 : (Jvm.Cond.code ({ cls := "CreditBroker$Letter", name := "readies", desc := "()V" } : Jvm.MethodName) prog_9_method_4_code (1 : Nat) (Option.none : Option Jvm.ClassFile.FieldType)) ∈ lw_all := lw_g (lw_at lw_m6 224 rfl) rfl
theorem q1521 : (Jvm.Cond.methodLink "CreditBroker$Letter" (35 : Nat) ({ cls := "CreditBroker$Letter", name := "becomes", desc := "(III)V" } : Jvm.MethodName)) ∈ lw_all := lw_g (lw_at lw_m6 225 rfl) rfl
theorem q1522 : (Jvm.Cond.instanceMethod ({ cls := "CreditBroker$Letter", name := "becomes", desc := "(III)V" } : Jvm.MethodName)) ∈ lw_all := lw_g (lw_at lw_m6 226 rfl) rfl
theorem q1523 : (Jvm.Cond.selects "CreditBroker$Letter" ({ cls := "CreditBroker$Letter", name := "becomes", desc := "(III)V" } : Jvm.MethodName) ({ cls := "CreditBroker$Letter", name := "becomes", desc := "(III)V" } : Jvm.MethodName)) ∈ lw_all := lw_g (lw_at lw_m6 227 rfl) rfl
theorem q1524 : (Jvm.Cond.code ({ cls := "CreditBroker$Letter", name := "becomes", desc := "(III)V" } : Jvm.MethodName) prog_9_method_3_code (4 : Nat) (Option.none : Option Jvm.ClassFile.FieldType)) ∈ lw_all := lw_g (lw_at lw_m6 228 rfl) rfl
theorem q1702 : (Jvm.Cond.instantiable "CreditBroker$Letter" (6 : Nat)) ∈ lw_all := lw_g (lw_at lw_m7 166 rfl) rfl
theorem q1704 : (Jvm.Cond.instanceMethod ({ cls := "CreditBroker$Letter", name := "<init>", desc := "(LCreditBroker$Message;)V" } : Jvm.MethodName)) ∈ lw_all := lw_g (lw_at lw_m7 168 rfl) rfl
theorem q1705 : (Jvm.Cond.code ({ cls := "CreditBroker$Letter", name := "<init>", desc := "(LCreditBroker$Message;)V" } : Jvm.MethodName) prog_9_method_1_code (2 : Nat) (Option.none : Option Jvm.ClassFile.FieldType)) ∈ lw_all := lw_g (lw_at lw_m7 169 rfl) rfl
theorem q1706 : (Jvm.Cond.methodLink "CreditBroker$Letter" (3 : Nat) ({ cls := "java/lang/Object", name := "<init>", desc := "()V" } : Jvm.MethodName)) ∈ lw_all := lw_g (lw_at lw_m7 170 rfl) rfl
theorem q1708 : (Jvm.Cond.fieldLink "CreditBroker$Letter" (21 : Nat) "CreditBroker$Letter" "message" "LCreditBroker$Message;") ∈ lw_all := lw_g (lw_at lw_m7 172 rfl) rfl
theorem q1713 : (Jvm.Cond.fieldLink "CreditBroker$Letter" (9 : Nat) "CreditBroker$Letter" "state" "I") ∈ lw_all := lw_g (lw_at lw_m7 177 rfl) rfl
theorem q1717 : (Jvm.Cond.fieldLink "CreditBroker$Letter" (15 : Nat) "CreditBroker$Letter" "till" "I") ∈ lw_all := lw_g (lw_at lw_m7 181 rfl) rfl
theorem q1721 : (Jvm.Cond.fieldLink "CreditBroker$Letter" (28 : Nat) "CreditBroker$Letter" "failed" "I") ∈ lw_all := lw_g (lw_at lw_m7 185 rfl) rfl
theorem q1725 : (Jvm.Cond.fieldLink "CreditBroker$Letter" (18 : Nat) "CreditBroker$Letter" "consumer" "I") ∈ lw_all := lw_g (lw_at lw_m7 189 rfl) rfl
theorem q1730 : (Jvm.Cond.fieldLink "CreditBroker$Letter" (31 : Nat) "CreditBroker$Letter" "cause" "LCreditBroker$Cause;") ∈ lw_all := lw_g (lw_at lw_m7 194 rfl) rfl
theorem q1732 : (Jvm.Cond.laysFinal "CreditBroker$Letter" "CreditBroker$Letter" "message" "LCreditBroker$Message;") ∈ lw_all := lw_g (lw_at lw_m7 196 rfl) rfl
theorem q1733 : (Jvm.Cond.soleField "CreditBroker$Letter" "message") ∈ lw_all := lw_g (lw_at lw_m7 197 rfl) rfl
theorem q1734 : (Jvm.Cond.lays "CreditBroker$Letter" "CreditBroker$Letter" "state" "I") ∈ lw_all := lw_g (lw_at lw_m7 198 rfl) rfl
theorem q1735 : (Jvm.Cond.soleField "CreditBroker$Letter" "state") ∈ lw_all := lw_g (lw_at lw_m7 199 rfl) rfl
theorem q1736 : (Jvm.Cond.lays "CreditBroker$Letter" "CreditBroker$Letter" "till" "I") ∈ lw_all := lw_g (lw_at lw_m7 200 rfl) rfl
theorem q1737 : (Jvm.Cond.soleField "CreditBroker$Letter" "till") ∈ lw_all := lw_g (lw_at lw_m7 201 rfl) rfl
theorem q1738 : (Jvm.Cond.lays "CreditBroker$Letter" "CreditBroker$Letter" "failed" "I") ∈ lw_all := lw_g (lw_at lw_m7 202 rfl) rfl
theorem q1739 : (Jvm.Cond.soleField "CreditBroker$Letter" "failed") ∈ lw_all := lw_g (lw_at lw_m7 203 rfl) rfl
theorem q1740 : (Jvm.Cond.lays "CreditBroker$Letter" "CreditBroker$Letter" "consumer" "I") ∈ lw_all := lw_g (lw_at lw_m7 204 rfl) rfl
theorem q1741 : (Jvm.Cond.soleField "CreditBroker$Letter" "consumer") ∈ lw_all := lw_g (lw_at lw_m7 205 rfl) rfl
theorem q1742 : (Jvm.Cond.lays "CreditBroker$Letter" "CreditBroker$Letter" "cause" "LCreditBroker$Cause;") ∈ lw_all := lw_g (lw_at lw_m7 206 rfl) rfl
theorem q1743 : (Jvm.Cond.soleField "CreditBroker$Letter" "cause") ∈ lw_all := lw_g (lw_at lw_m7 207 rfl) rfl
theorem q1744 : (Jvm.Cond.superclass "CreditBroker$Letter" "java/lang/Object") ∈ lw_all := lw_g (lw_at lw_m7 208 rfl) rfl
theorem q1812 : (Jvm.Cond.selects "CreditBroker$Letter" ({ cls := "java/lang/Object", name := "equals", desc := "(Ljava/lang/Object;)Z" } : Jvm.MethodName) ({ cls := "java/lang/Object", name := "equals", desc := "(Ljava/lang/Object;)Z" } : Jvm.MethodName)) ∈ lw_all := lw_g (lw_at lw_m8 36 rfl) rfl
theorem q2617 : (Jvm.Cond.instanceMethod ({ cls := "CreditBroker$Letter", name := "<init>", desc := "(LCreditBroker$Letter;)V" } : Jvm.MethodName)) ∈ lw_all := lw_g (lw_at lw_m11 121 rfl) rfl
theorem q2618 : (Jvm.Cond.code ({ cls := "CreditBroker$Letter", name := "<init>", desc := "(LCreditBroker$Letter;)V" } : Jvm.MethodName) prog_9_method_2_code (2 : Nat) (Option.none : Option Jvm.ClassFile.FieldType)) ∈ lw_all := lw_g (lw_at lw_m11 122 rfl) rfl
theorem q2619 : (Jvm.Cond.methodLink "CreditBroker$Letter" (25 : Nat) ({ cls := "CreditBroker$Letter", name := "<init>", desc := "(LCreditBroker$Message;)V" } : Jvm.MethodName)) ∈ lw_all := lw_g (lw_at lw_m11 123 rfl) rfl
theorem q3337 : (Jvm.Cond.castable "CreditBroker$Letter" "java/lang/Object") ∈ lw_tbl := lw_at lw_m14 121 rfl
theorem in_X16 : ∀ w ∈ wsX160, w ∈ lw_all := lw_in wsX160 [1732, 1734, 1736, 1738, 1740, 1742] (by decide +kernel) (by decide +kernel)
/-! CreditBroker$Failure -/
def RX17 : String := "CreditBroker$Failure"
abbrev cX17_kind : ByteArray := prog_6_method_3_code
def yX17_kind : MethodName := ⟨RX17, "kind", "()I"⟩
def dkwX17_kind_0 : List UInt8 := [42, 183, 0, 27, 4, 96, 172]
abbrev dktX17_kind_0 : List UInt8 := dkwX17_kind_0 ++ []
theorem dksX17_kind_0 : cX17_kind.data.toList.drop 0 = dktX17_kind_0 := by decide +kernel
theorem dX17_kind_0 : decode cX17_kind 0 = .ok (.aload_n 0, 1) := dk_42 (dk_at dksX17_kind_0 0 rfl rfl)
theorem dX17_kind_1 : decode cX17_kind 1 = .ok (.invokespecial 27, 3) := dk_183 0 27 (dk_at dksX17_kind_0 1 rfl rfl)
theorem dX17_kind_4 : decode cX17_kind 4 = .ok (.iconst 1, 1) := dk_4 (dk_at dksX17_kind_0 4 rfl rfl)
theorem dX17_kind_5 : decode cX17_kind 5 = .ok (.iadd, 1) := dk_96 (dk_at dksX17_kind_0 5 rfl rfl)
theorem dX17_kind_6 : decode cX17_kind 6 = .ok (.ireturn, 1) := dk_172 (dk_at dksX17_kind_0 6 rfl rfl)
abbrev cX17_init : ByteArray := prog_6_method_1_code
def yX17_init : MethodName := ⟨RX17, "<init>", "(ILCreditBroker$Letter;)V"⟩
def dkwX17_init_0 : List UInt8 := [42, 27, 44, 180, 0, 1, 44, 180, 0, 7, 44, 180, 0, 11, 183, 0, 14, 177]
abbrev dktX17_init_0 : List UInt8 := dkwX17_init_0 ++ []
theorem dksX17_init_0 : cX17_init.data.toList.drop 0 = dktX17_init_0 := by decide +kernel
theorem dX17_init_0 : decode cX17_init 0 = .ok (.aload_n 0, 1) := dk_42 (dk_at dksX17_init_0 0 rfl rfl)
theorem dX17_init_1 : decode cX17_init 1 = .ok (.iload_n 1, 1) := dk_27 (dk_at dksX17_init_0 1 rfl rfl)
theorem dX17_init_2 : decode cX17_init 2 = .ok (.aload_n 2, 1) := dk_44 (dk_at dksX17_init_0 2 rfl rfl)
theorem dX17_init_3 : decode cX17_init 3 = .ok (.getfield 1, 3) := dk_180 0 1 (dk_at dksX17_init_0 3 rfl rfl)
theorem dX17_init_6 : decode cX17_init 6 = .ok (.aload_n 2, 1) := dk_44 (dk_at dksX17_init_0 6 rfl rfl)
theorem dX17_init_7 : decode cX17_init 7 = .ok (.getfield 7, 3) := dk_180 0 7 (dk_at dksX17_init_0 7 rfl rfl)
theorem dX17_init_10 : decode cX17_init 10 = .ok (.aload_n 2, 1) := dk_44 (dk_at dksX17_init_0 10 rfl rfl)
theorem dX17_init_11 : decode cX17_init 11 = .ok (.getfield 11, 3) := dk_180 0 11 (dk_at dksX17_init_0 11 rfl rfl)
theorem dX17_init_14 : decode cX17_init 14 = .ok (.invokespecial 14, 3) := dk_183 0 14 (dk_at dksX17_init_0 14 rfl rfl)
theorem dX17_init_17 : decode cX17_init 17 = .ok (.return_, 1) := dk_177 (dk_at dksX17_init_0 17 rfl rfl)
abbrev cX17_init_2 : ByteArray := prog_6_method_2_code
def yX17_init_2 : MethodName := ⟨RX17, "<init>", "(ILCreditBroker$Cause;II)V"⟩
def dkwX17_init_2_0 : List UInt8 := [42, 27, 44, 183, 0, 20, 42, 29, 181, 0, 25, 42, 21, 4, 181, 0, 26, 177]
abbrev dktX17_init_2_0 : List UInt8 := dkwX17_init_2_0 ++ []
theorem dksX17_init_2_0 : cX17_init_2.data.toList.drop 0 = dktX17_init_2_0 := by decide +kernel
theorem dX17_init_2_0 : decode cX17_init_2 0 = .ok (.aload_n 0, 1) := dk_42 (dk_at dksX17_init_2_0 0 rfl rfl)
theorem dX17_init_2_1 : decode cX17_init_2 1 = .ok (.iload_n 1, 1) := dk_27 (dk_at dksX17_init_2_0 1 rfl rfl)
theorem dX17_init_2_2 : decode cX17_init_2 2 = .ok (.aload_n 2, 1) := dk_44 (dk_at dksX17_init_2_0 2 rfl rfl)
theorem dX17_init_2_3 : decode cX17_init_2 3 = .ok (.invokespecial 20, 3) := dk_183 0 20 (dk_at dksX17_init_2_0 3 rfl rfl)
theorem dX17_init_2_6 : decode cX17_init_2 6 = .ok (.aload_n 0, 1) := dk_42 (dk_at dksX17_init_2_0 6 rfl rfl)
theorem dX17_init_2_7 : decode cX17_init_2 7 = .ok (.iload_n 3, 1) := dk_29 (dk_at dksX17_init_2_0 7 rfl rfl)
theorem dX17_init_2_8 : decode cX17_init_2 8 = .ok (.putfield 25, 3) := dk_181 0 25 (dk_at dksX17_init_2_0 8 rfl rfl)
theorem dX17_init_2_11 : decode cX17_init_2 11 = .ok (.aload_n 0, 1) := dk_42 (dk_at dksX17_init_2_0 11 rfl rfl)
theorem dX17_init_2_12 : decode cX17_init_2 12 = .ok (.iload 4, 2) := dk_21 4 (dk_at dksX17_init_2_0 12 rfl rfl)
theorem dX17_init_2_14 : decode cX17_init_2 14 = .ok (.putfield 26, 3) := dk_181 0 26 (dk_at dksX17_init_2_0 14 rfl rfl)
theorem dX17_init_2_17 : decode cX17_init_2 17 = .ok (.return_, 1) := dk_177 (dk_at dksX17_init_2_0 17 rfl rfl)
theorem q145 : (Jvm.Cond.initialized "CreditBroker$Failure") ∈ lw_all := lw_g (lw_at lw_m1 49 rfl) rfl
theorem q540 : (Jvm.Cond.instanceMethod ({ cls := "CreditBroker$Failure", name := "kind", desc := "()I" } : Jvm.MethodName)) ∈ lw_all := lw_g (lw_at lw_m2 204 rfl) rfl
theorem q541 : (Jvm.Cond.code ({ cls := "CreditBroker$Failure", name := "kind", desc := "()I" } : Jvm.MethodName) prog_6_method_3_code (1 : Nat) (Option.some Jvm.ClassFile.FieldType.int)) ∈ lw_all := lw_g (lw_at lw_m2 205 rfl) rfl
theorem q542 : (Jvm.Cond.methodLink "CreditBroker$Failure" (27 : Nat) ({ cls := "CreditBroker$Cause", name := "kind", desc := "()I" } : Jvm.MethodName)) ∈ lw_all := lw_g (lw_at lw_m2 206 rfl) rfl
theorem q543 : (Jvm.Cond.superclass "CreditBroker$Failure" "CreditBroker$Cause") ∈ lw_all := lw_g (lw_at lw_m2 207 rfl) rfl
theorem q1720 : (Jvm.Cond.fieldLink "CreditBroker$Failure" (7 : Nat) "CreditBroker$Letter" "failed" "I") ∈ lw_all := lw_g (lw_at lw_m7 184 rfl) rfl
theorem q1724 : (Jvm.Cond.fieldLink "CreditBroker$Failure" (11 : Nat) "CreditBroker$Letter" "consumer" "I") ∈ lw_all := lw_g (lw_at lw_m7 188 rfl) rfl
theorem q1728 : (Jvm.Cond.fieldLink "CreditBroker$Failure" (1 : Nat) "CreditBroker$Letter" "cause" "LCreditBroker$Cause;") ∈ lw_all := lw_g (lw_at lw_m7 192 rfl) rfl
theorem q1878 : (Jvm.Cond.instanceMethod ({ cls := "CreditBroker$Failure", name := "<init>", desc := "(ILCreditBroker$Letter;)V" } : Jvm.MethodName)) ∈ lw_all := lw_g (lw_at lw_m8 102 rfl) rfl
theorem q1879 : (Jvm.Cond.code ({ cls := "CreditBroker$Failure", name := "<init>", desc := "(ILCreditBroker$Letter;)V" } : Jvm.MethodName) prog_6_method_1_code (3 : Nat) (Option.none : Option Jvm.ClassFile.FieldType)) ∈ lw_all := lw_g (lw_at lw_m8 103 rfl) rfl
theorem q1880 : (Jvm.Cond.methodLink "CreditBroker$Failure" (14 : Nat) ({ cls := "CreditBroker$Failure", name := "<init>", desc := "(ILCreditBroker$Cause;II)V" } : Jvm.MethodName)) ∈ lw_all := lw_g (lw_at lw_m8 104 rfl) rfl
theorem q1881 : (Jvm.Cond.instanceMethod ({ cls := "CreditBroker$Failure", name := "<init>", desc := "(ILCreditBroker$Cause;II)V" } : Jvm.MethodName)) ∈ lw_all := lw_g (lw_at lw_m8 105 rfl) rfl
theorem q1882 : (Jvm.Cond.code ({ cls := "CreditBroker$Failure", name := "<init>", desc := "(ILCreditBroker$Cause;II)V" } : Jvm.MethodName) prog_6_method_2_code (5 : Nat) (Option.none : Option Jvm.ClassFile.FieldType)) ∈ lw_all := lw_g (lw_at lw_m8 106 rfl) rfl
theorem q1883 : (Jvm.Cond.methodLink "CreditBroker$Failure" (20 : Nat) ({ cls := "CreditBroker$Cause", name := "<init>", desc := "(ILCreditBroker$Cause;)V" } : Jvm.MethodName)) ∈ lw_all := lw_g (lw_at lw_m8 107 rfl) rfl
theorem q1884 : (Jvm.Cond.fieldLink "CreditBroker$Failure" (25 : Nat) "CreditBroker$Failure" "failed" "I") ∈ lw_all := lw_g (lw_at lw_m8 108 rfl) rfl
theorem q1886 : (Jvm.Cond.fieldLink "CreditBroker$Failure" (26 : Nat) "CreditBroker$Failure" "consumer" "I") ∈ lw_all := lw_g (lw_at lw_m8 110 rfl) rfl
theorem q1892 : (Jvm.Cond.soleField "CreditBroker$Failure" "failed") ∈ lw_all := lw_g (lw_at lw_m8 116 rfl) rfl
theorem q1894 : (Jvm.Cond.soleField "CreditBroker$Failure" "consumer") ∈ lw_all := lw_g (lw_at lw_m8 118 rfl) rfl
theorem q3287 : (Jvm.Cond.sameMethod "CreditBroker$Failure" "CreditBroker$Failure" "kind" "()I") ∈ lw_all := lw_g (lw_at lw_m14 71 rfl) rfl
/-! CreditBroker$Rejected -/
def RX18 : String := "CreditBroker$Rejected"
def TX18 : u_T := fun k => match k with
  | 0 => ("CreditBroker$Cause", "time", "I", true)
  | 1 => ("CreditBroker$Cause", "by", "LCreditBroker$Cause;", true)
  | 2 => ("CreditBroker$Cause", "depth", "I", true)
  | 3 => ("CreditBroker$Failure", "failed", "I", true)
  | _ => ("CreditBroker$Failure", "consumer", "I", true)
def tyX18 : Nat → FieldType := fun k => match k with
  | 0 => .int
  | 1 => .object "CreditBroker$Cause"
  | 2 => .int
  | 3 => .int
  | _ => .int
abbrev wsX180 : List Cond := u_ws RX18 TX18 5
theorem nmX18 : ∀ a, a < 5 → ∀ b, b < 5 → a ≠ b → (TX18 a).2.1 ≠ (TX18 b).2.1 := by decide +kernel
theorem tyX18_ok : ∀ k, k < 5 → parseFieldDescriptor (TX18 k).2.2.1 = some (tyX18 k) := by decide +kernel
abbrev cX18_kind : ByteArray := prog_18_method_2_code
def yX18_kind : MethodName := ⟨RX18, "kind", "()I"⟩
def dkwX18_kind_0 : List UInt8 := [42, 183, 0, 7, 5, 96, 172]
abbrev dktX18_kind_0 : List UInt8 := dkwX18_kind_0 ++ []
theorem dksX18_kind_0 : cX18_kind.data.toList.drop 0 = dktX18_kind_0 := by decide +kernel
theorem dX18_kind_0 : decode cX18_kind 0 = .ok (.aload_n 0, 1) := dk_42 (dk_at dksX18_kind_0 0 rfl rfl)
theorem dX18_kind_1 : decode cX18_kind 1 = .ok (.invokespecial 7, 3) := dk_183 0 7 (dk_at dksX18_kind_0 1 rfl rfl)
theorem dX18_kind_4 : decode cX18_kind 4 = .ok (.iconst 2, 1) := dk_5 (dk_at dksX18_kind_0 4 rfl rfl)
theorem dX18_kind_5 : decode cX18_kind 5 = .ok (.iadd, 1) := dk_96 (dk_at dksX18_kind_0 5 rfl rfl)
theorem dX18_kind_6 : decode cX18_kind 6 = .ok (.ireturn, 1) := dk_172 (dk_at dksX18_kind_0 6 rfl rfl)
abbrev cX18_who : ByteArray := prog_18_method_3_code
def yX18_who : MethodName := ⟨RX18, "who", "()I"⟩
theorem dX18_who_0 : decode cX18_who 0 = .ok (.aload_n 0, 1) := by decide +kernel
theorem dX18_who_1 : decode cX18_who 1 = .ok (.getfield 11, 3) := by decide +kernel
theorem dX18_who_4 : decode cX18_who 4 = .ok (.ireturn, 1) := by decide +kernel
abbrev cX18_init : ByteArray := prog_18_method_1_code
def yX18_init : MethodName := ⟨RX18, "<init>", "(ILCreditBroker$Letter;)V"⟩
def dkwX18_init_0 : List UInt8 := [42, 27, 44, 183, 0, 1, 177]
abbrev dktX18_init_0 : List UInt8 := dkwX18_init_0 ++ []
theorem dksX18_init_0 : cX18_init.data.toList.drop 0 = dktX18_init_0 := by decide +kernel
theorem dX18_init_0 : decode cX18_init 0 = .ok (.aload_n 0, 1) := dk_42 (dk_at dksX18_init_0 0 rfl rfl)
theorem dX18_init_1 : decode cX18_init 1 = .ok (.iload_n 1, 1) := dk_27 (dk_at dksX18_init_0 1 rfl rfl)
theorem dX18_init_2 : decode cX18_init 2 = .ok (.aload_n 2, 1) := dk_44 (dk_at dksX18_init_0 2 rfl rfl)
theorem dX18_init_3 : decode cX18_init 3 = .ok (.invokespecial 1, 3) := dk_183 0 1 (dk_at dksX18_init_0 3 rfl rfl)
theorem dX18_init_6 : decode cX18_init 6 = .ok (.return_, 1) := dk_177 (dk_at dksX18_init_0 6 rfl rfl)
theorem q146 : (Jvm.Cond.initialized "CreditBroker$Rejected") ∈ lw_all := lw_g (lw_at lw_m1 50 rfl) rfl
theorem q559 : (Jvm.Cond.selects "CreditBroker$Rejected" ({ cls := "CreditBroker$Cause", name := "kind", desc := "()I" } : Jvm.MethodName) ({ cls := "CreditBroker$Rejected", name := "kind", desc := "()I" } : Jvm.MethodName)) ∈ lw_all := lw_g (lw_at lw_m2 223 rfl) rfl
theorem q560 : (Jvm.Cond.instanceMethod ({ cls := "CreditBroker$Rejected", name := "kind", desc := "()I" } : Jvm.MethodName)) ∈ lw_all := lw_g (lw_at lw_m2 224 rfl) rfl
theorem q561 : (Jvm.Cond.code ({ cls := "CreditBroker$Rejected", name := "kind", desc := "()I" } : Jvm.MethodName) prog_18_method_2_code (1 : Nat) (Option.some Jvm.ClassFile.FieldType.int)) ∈ lw_all := lw_g (lw_at lw_m2 225 rfl) rfl
theorem q562 : (Jvm.Cond.methodLink "CreditBroker$Rejected" (7 : Nat) ({ cls := "CreditBroker$Failure", name := "kind", desc := "()I" } : Jvm.MethodName)) ∈ lw_all := lw_g (lw_at lw_m2 226 rfl) rfl
theorem q563 : (Jvm.Cond.superclass "CreditBroker$Rejected" "CreditBroker$Failure") ∈ lw_all := lw_g (lw_at lw_m2 227 rfl) rfl
theorem q855 : (Jvm.Cond.selects "CreditBroker$Rejected" ({ cls := "CreditBroker$Cause", name := "depth", desc := "()I" } : Jvm.MethodName) ({ cls := "CreditBroker$Cause", name := "depth", desc := "()I" } : Jvm.MethodName)) ∈ lw_all := lw_g (lw_at lw_m4 39 rfl) rfl
theorem q863 : (Jvm.Cond.selects "CreditBroker$Rejected" ({ cls := "CreditBroker$Cause", name := "link", desc := "(I)LCreditBroker$Cause;" } : Jvm.MethodName) ({ cls := "CreditBroker$Cause", name := "link", desc := "(I)LCreditBroker$Cause;" } : Jvm.MethodName)) ∈ lw_all := lw_g (lw_at lw_m4 47 rfl) rfl
theorem q897 : (Jvm.Cond.instanceMethod ({ cls := "CreditBroker$Rejected", name := "who", desc := "()I" } : Jvm.MethodName)) ∈ lw_all := lw_g (lw_at lw_m4 81 rfl) rfl
theorem q898 : (Jvm.Cond.selects "CreditBroker$Rejected" ({ cls := "CreditBroker$Rejected", name := "who", desc := "()I" } : Jvm.MethodName) ({ cls := "CreditBroker$Rejected", name := "who", desc := "()I" } : Jvm.MethodName)) ∈ lw_all := lw_g (lw_at lw_m4 82 rfl) rfl
theorem q899 : (Jvm.Cond.code ({ cls := "CreditBroker$Rejected", name := "who", desc := "()I" } : Jvm.MethodName) prog_18_method_3_code (1 : Nat) (Option.some Jvm.ClassFile.FieldType.int)) ∈ lw_all := lw_g (lw_at lw_m4 83 rfl) rfl
theorem q1076 : (Jvm.Cond.selects "CreditBroker$Rejected" ({ cls := "java/lang/Object", name := "getClass", desc := "()Ljava/lang/Class;" } : Jvm.MethodName) ({ cls := "java/lang/Object", name := "getClass", desc := "()Ljava/lang/Class;" } : Jvm.MethodName)) ∈ lw_all := lw_g (lw_at lw_m5 20 rfl) rfl
theorem q1820 : (Jvm.Cond.selects "CreditBroker$Rejected" ({ cls := "java/lang/Object", name := "equals", desc := "(Ljava/lang/Object;)Z" } : Jvm.MethodName) ({ cls := "java/lang/Object", name := "equals", desc := "(Ljava/lang/Object;)Z" } : Jvm.MethodName)) ∈ lw_all := lw_g (lw_at lw_m8 44 rfl) rfl
theorem q1873 : (Jvm.Cond.instantiable "CreditBroker$Rejected" (5 : Nat)) ∈ lw_all := lw_g (lw_at lw_m8 97 rfl) rfl
theorem q1875 : (Jvm.Cond.instanceMethod ({ cls := "CreditBroker$Rejected", name := "<init>", desc := "(ILCreditBroker$Letter;)V" } : Jvm.MethodName)) ∈ lw_all := lw_g (lw_at lw_m8 99 rfl) rfl
theorem q1876 : (Jvm.Cond.code ({ cls := "CreditBroker$Rejected", name := "<init>", desc := "(ILCreditBroker$Letter;)V" } : Jvm.MethodName) prog_18_method_1_code (3 : Nat) (Option.none : Option Jvm.ClassFile.FieldType)) ∈ lw_all := lw_g (lw_at lw_m8 100 rfl) rfl
theorem q1877 : (Jvm.Cond.methodLink "CreditBroker$Rejected" (1 : Nat) ({ cls := "CreditBroker$Failure", name := "<init>", desc := "(ILCreditBroker$Letter;)V" } : Jvm.MethodName)) ∈ lw_all := lw_g (lw_at lw_m8 101 rfl) rfl
theorem q1887 : (Jvm.Cond.fieldLink "CreditBroker$Rejected" (11 : Nat) "CreditBroker$Rejected" "consumer" "I") ∈ lw_all := lw_g (lw_at lw_m8 111 rfl) rfl
theorem q1888 : (Jvm.Cond.sameField "CreditBroker$Rejected" "CreditBroker$Failure" "consumer" "I") ∈ lw_all := lw_g (lw_at lw_m8 112 rfl) rfl
theorem q1891 : (Jvm.Cond.laysFinal "CreditBroker$Rejected" "CreditBroker$Failure" "failed" "I") ∈ lw_all := lw_g (lw_at lw_m8 115 rfl) rfl
theorem q1893 : (Jvm.Cond.laysFinal "CreditBroker$Rejected" "CreditBroker$Failure" "consumer" "I") ∈ lw_all := lw_g (lw_at lw_m8 117 rfl) rfl
theorem q1895 : (Jvm.Cond.laysFinal "CreditBroker$Rejected" "CreditBroker$Cause" "time" "I") ∈ lw_all := lw_g (lw_at lw_m8 119 rfl) rfl
theorem q1896 : (Jvm.Cond.laysFinal "CreditBroker$Rejected" "CreditBroker$Cause" "by" "LCreditBroker$Cause;") ∈ lw_all := lw_g (lw_at lw_m8 120 rfl) rfl
theorem q1897 : (Jvm.Cond.laysFinal "CreditBroker$Rejected" "CreditBroker$Cause" "depth" "I") ∈ lw_all := lw_g (lw_at lw_m8 121 rfl) rfl
theorem q3306 : (Jvm.Cond.castable "CreditBroker$Rejected" "CreditBroker$Cause") ∈ lw_tbl := lw_at lw_m14 90 rfl
theorem q3308 : (Jvm.Cond.castable "CreditBroker$Rejected" "CreditBroker$Failure") ∈ lw_tbl := lw_at lw_m14 92 rfl
theorem q3338 : (Jvm.Cond.castable "CreditBroker$Rejected" "java/lang/Object") ∈ lw_tbl := lw_at lw_m14 122 rfl
theorem in_X18 : ∀ w ∈ wsX180, w ∈ lw_all := lw_in wsX180 [1895, 1896, 1897, 1891, 1893] (by decide +kernel) (by decide +kernel)
/-! CreditBroker$Late -/
def RX19 : String := "CreditBroker$Late"
def TX19 : u_T := fun k => match k with
  | 0 => ("CreditBroker$Cause", "time", "I", true)
  | 1 => ("CreditBroker$Cause", "by", "LCreditBroker$Cause;", true)
  | 2 => ("CreditBroker$Cause", "depth", "I", true)
  | 3 => ("CreditBroker$Failure", "failed", "I", true)
  | _ => ("CreditBroker$Failure", "consumer", "I", true)
def tyX19 : Nat → FieldType := fun k => match k with
  | 0 => .int
  | 1 => .object "CreditBroker$Cause"
  | 2 => .int
  | 3 => .int
  | _ => .int
abbrev wsX190 : List Cond := u_ws RX19 TX19 5
theorem nmX19 : ∀ a, a < 5 → ∀ b, b < 5 → a ≠ b → (TX19 a).2.1 ≠ (TX19 b).2.1 := by decide +kernel
theorem tyX19_ok : ∀ k, k < 5 → parseFieldDescriptor (TX19 k).2.2.1 = some (tyX19 k) := by decide +kernel
abbrev cX19_kind : ByteArray := prog_8_method_2_code
def yX19_kind : MethodName := ⟨RX19, "kind", "()I"⟩
def dkwX19_kind_0 : List UInt8 := [42, 183, 0, 7, 6, 96, 172]
abbrev dktX19_kind_0 : List UInt8 := dkwX19_kind_0 ++ []
theorem dksX19_kind_0 : cX19_kind.data.toList.drop 0 = dktX19_kind_0 := by decide +kernel
theorem dX19_kind_0 : decode cX19_kind 0 = .ok (.aload_n 0, 1) := dk_42 (dk_at dksX19_kind_0 0 rfl rfl)
theorem dX19_kind_1 : decode cX19_kind 1 = .ok (.invokespecial 7, 3) := dk_183 0 7 (dk_at dksX19_kind_0 1 rfl rfl)
theorem dX19_kind_4 : decode cX19_kind 4 = .ok (.iconst 3, 1) := dk_6 (dk_at dksX19_kind_0 4 rfl rfl)
theorem dX19_kind_5 : decode cX19_kind 5 = .ok (.iadd, 1) := dk_96 (dk_at dksX19_kind_0 5 rfl rfl)
theorem dX19_kind_6 : decode cX19_kind 6 = .ok (.ireturn, 1) := dk_172 (dk_at dksX19_kind_0 6 rfl rfl)
abbrev cX19_who : ByteArray := prog_8_method_3_code
def yX19_who : MethodName := ⟨RX19, "who", "()I"⟩
theorem dX19_who_0 : decode cX19_who 0 = .ok (.aload_n 0, 1) := by decide +kernel
theorem dX19_who_1 : decode cX19_who 1 = .ok (.getfield 11, 3) := by decide +kernel
theorem dX19_who_4 : decode cX19_who 4 = .ok (.ireturn, 1) := by decide +kernel
abbrev cX19_init : ByteArray := prog_8_method_1_code
def yX19_init : MethodName := ⟨RX19, "<init>", "(ILCreditBroker$Letter;)V"⟩
def dkwX19_init_0 : List UInt8 := [42, 27, 44, 183, 0, 1, 177]
abbrev dktX19_init_0 : List UInt8 := dkwX19_init_0 ++ []
theorem dksX19_init_0 : cX19_init.data.toList.drop 0 = dktX19_init_0 := by decide +kernel
theorem dX19_init_0 : decode cX19_init 0 = .ok (.aload_n 0, 1) := dk_42 (dk_at dksX19_init_0 0 rfl rfl)
theorem dX19_init_1 : decode cX19_init 1 = .ok (.iload_n 1, 1) := dk_27 (dk_at dksX19_init_0 1 rfl rfl)
theorem dX19_init_2 : decode cX19_init 2 = .ok (.aload_n 2, 1) := dk_44 (dk_at dksX19_init_0 2 rfl rfl)
theorem dX19_init_3 : decode cX19_init 3 = .ok (.invokespecial 1, 3) := dk_183 0 1 (dk_at dksX19_init_0 3 rfl rfl)
theorem dX19_init_6 : decode cX19_init 6 = .ok (.return_, 1) := dk_177 (dk_at dksX19_init_0 6 rfl rfl)
theorem q147 : (Jvm.Cond.initialized "CreditBroker$Late") ∈ lw_all := lw_g (lw_at lw_m1 51 rfl) rfl
theorem q535 : (Jvm.Cond.selects "CreditBroker$Late" ({ cls := "CreditBroker$Cause", name := "kind", desc := "()I" } : Jvm.MethodName) ({ cls := "CreditBroker$Late", name := "kind", desc := "()I" } : Jvm.MethodName)) ∈ lw_all := lw_g (lw_at lw_m2 199 rfl) rfl
theorem q536 : (Jvm.Cond.instanceMethod ({ cls := "CreditBroker$Late", name := "kind", desc := "()I" } : Jvm.MethodName)) ∈ lw_all := lw_g (lw_at lw_m2 200 rfl) rfl
theorem q537 : (Jvm.Cond.code ({ cls := "CreditBroker$Late", name := "kind", desc := "()I" } : Jvm.MethodName) prog_8_method_2_code (1 : Nat) (Option.some Jvm.ClassFile.FieldType.int)) ∈ lw_all := lw_g (lw_at lw_m2 201 rfl) rfl
theorem q538 : (Jvm.Cond.methodLink "CreditBroker$Late" (7 : Nat) ({ cls := "CreditBroker$Failure", name := "kind", desc := "()I" } : Jvm.MethodName)) ∈ lw_all := lw_g (lw_at lw_m2 202 rfl) rfl
theorem q539 : (Jvm.Cond.superclass "CreditBroker$Late" "CreditBroker$Failure") ∈ lw_all := lw_g (lw_at lw_m2 203 rfl) rfl
theorem q852 : (Jvm.Cond.selects "CreditBroker$Late" ({ cls := "CreditBroker$Cause", name := "depth", desc := "()I" } : Jvm.MethodName) ({ cls := "CreditBroker$Cause", name := "depth", desc := "()I" } : Jvm.MethodName)) ∈ lw_all := lw_g (lw_at lw_m4 36 rfl) rfl
theorem q860 : (Jvm.Cond.selects "CreditBroker$Late" ({ cls := "CreditBroker$Cause", name := "link", desc := "(I)LCreditBroker$Cause;" } : Jvm.MethodName) ({ cls := "CreditBroker$Cause", name := "link", desc := "(I)LCreditBroker$Cause;" } : Jvm.MethodName)) ∈ lw_all := lw_g (lw_at lw_m4 44 rfl) rfl
theorem q902 : (Jvm.Cond.instanceMethod ({ cls := "CreditBroker$Late", name := "who", desc := "()I" } : Jvm.MethodName)) ∈ lw_all := lw_g (lw_at lw_m4 86 rfl) rfl
theorem q903 : (Jvm.Cond.selects "CreditBroker$Late" ({ cls := "CreditBroker$Late", name := "who", desc := "()I" } : Jvm.MethodName) ({ cls := "CreditBroker$Late", name := "who", desc := "()I" } : Jvm.MethodName)) ∈ lw_all := lw_g (lw_at lw_m4 87 rfl) rfl
theorem q904 : (Jvm.Cond.code ({ cls := "CreditBroker$Late", name := "who", desc := "()I" } : Jvm.MethodName) prog_8_method_3_code (1 : Nat) (Option.some Jvm.ClassFile.FieldType.int)) ∈ lw_all := lw_g (lw_at lw_m4 88 rfl) rfl
theorem q1067 : (Jvm.Cond.selects "CreditBroker$Late" ({ cls := "java/lang/Object", name := "getClass", desc := "()Ljava/lang/Class;" } : Jvm.MethodName) ({ cls := "java/lang/Object", name := "getClass", desc := "()Ljava/lang/Class;" } : Jvm.MethodName)) ∈ lw_all := lw_g (lw_at lw_m5 11 rfl) rfl
theorem q1811 : (Jvm.Cond.selects "CreditBroker$Late" ({ cls := "java/lang/Object", name := "equals", desc := "(Ljava/lang/Object;)Z" } : Jvm.MethodName) ({ cls := "java/lang/Object", name := "equals", desc := "(Ljava/lang/Object;)Z" } : Jvm.MethodName)) ∈ lw_all := lw_g (lw_at lw_m8 35 rfl) rfl
theorem q1889 : (Jvm.Cond.fieldLink "CreditBroker$Late" (11 : Nat) "CreditBroker$Late" "consumer" "I") ∈ lw_all := lw_g (lw_at lw_m8 113 rfl) rfl
theorem q1890 : (Jvm.Cond.sameField "CreditBroker$Late" "CreditBroker$Failure" "consumer" "I") ∈ lw_all := lw_g (lw_at lw_m8 114 rfl) rfl
theorem q1917 : (Jvm.Cond.instantiable "CreditBroker$Late" (5 : Nat)) ∈ lw_all := lw_g (lw_at lw_m8 141 rfl) rfl
theorem q1919 : (Jvm.Cond.instanceMethod ({ cls := "CreditBroker$Late", name := "<init>", desc := "(ILCreditBroker$Letter;)V" } : Jvm.MethodName)) ∈ lw_all := lw_g (lw_at lw_m8 143 rfl) rfl
theorem q1920 : (Jvm.Cond.code ({ cls := "CreditBroker$Late", name := "<init>", desc := "(ILCreditBroker$Letter;)V" } : Jvm.MethodName) prog_8_method_1_code (3 : Nat) (Option.none : Option Jvm.ClassFile.FieldType)) ∈ lw_all := lw_g (lw_at lw_m8 144 rfl) rfl
theorem q1921 : (Jvm.Cond.methodLink "CreditBroker$Late" (1 : Nat) ({ cls := "CreditBroker$Failure", name := "<init>", desc := "(ILCreditBroker$Letter;)V" } : Jvm.MethodName)) ∈ lw_all := lw_g (lw_at lw_m8 145 rfl) rfl
theorem q1922 : (Jvm.Cond.laysFinal "CreditBroker$Late" "CreditBroker$Failure" "failed" "I") ∈ lw_all := lw_g (lw_at lw_m8 146 rfl) rfl
theorem q1923 : (Jvm.Cond.laysFinal "CreditBroker$Late" "CreditBroker$Failure" "consumer" "I") ∈ lw_all := lw_g (lw_at lw_m8 147 rfl) rfl
theorem q1924 : (Jvm.Cond.laysFinal "CreditBroker$Late" "CreditBroker$Cause" "time" "I") ∈ lw_all := lw_g (lw_at lw_m8 148 rfl) rfl
theorem q1925 : (Jvm.Cond.laysFinal "CreditBroker$Late" "CreditBroker$Cause" "by" "LCreditBroker$Cause;") ∈ lw_all := lw_g (lw_at lw_m8 149 rfl) rfl
theorem q1926 : (Jvm.Cond.laysFinal "CreditBroker$Late" "CreditBroker$Cause" "depth" "I") ∈ lw_all := lw_g (lw_at lw_m8 150 rfl) rfl
theorem q3303 : (Jvm.Cond.castable "CreditBroker$Late" "CreditBroker$Cause") ∈ lw_tbl := lw_at lw_m14 87 rfl
theorem q3307 : (Jvm.Cond.castable "CreditBroker$Late" "CreditBroker$Failure") ∈ lw_tbl := lw_at lw_m14 91 rfl
theorem q3339 : (Jvm.Cond.castable "CreditBroker$Late" "java/lang/Object") ∈ lw_tbl := lw_at lw_m14 123 rfl
theorem in_X19 : ∀ w ∈ wsX190, w ∈ lw_all := lw_in wsX190 [1924, 1925, 1926, 1922, 1923] (by decide +kernel) (by decide +kernel)
/-! CreditBroker$Sheet -/
def RX2 : String := "CreditBroker$Sheet"
def TX2 : u_T := fun k => match k with
  | _ => ("CreditBroker$Sheet", "held", "Ljava/lang/Object;", false)
def tyX2 : Nat → FieldType := fun k => match k with
  | _ => .object "java/lang/Object"
abbrev wsX20 : List Cond := u_ws RX2 TX2 1
theorem nmX2 : ∀ a, a < 1 → ∀ b, b < 1 → a ≠ b → (TX2 a).2.1 ≠ (TX2 b).2.1 := by decide +kernel
theorem tyX2_ok : ∀ k, k < 1 → parseFieldDescriptor (TX2 k).2.2.1 = some (tyX2 k) := by decide +kernel
abbrev cX2_init : ByteArray := prog_19_method_1_code
def yX2_init : MethodName := ⟨RX2, "<init>", "()V"⟩
theorem dX2_init_0 : decode cX2_init 0 = .ok (.aload_n 0, 1) := by decide +kernel
theorem dX2_init_1 : decode cX2_init 1 = .ok (.invokespecial 1, 3) := by decide +kernel
theorem dX2_init_4 : decode cX2_init 4 = .ok (.return_, 1) := by decide +kernel
theorem q104 : (Jvm.Cond.initialized "CreditBroker$Sheet") ∈ lw_all := lw_g (lw_at lw_m1 8 rfl) rfl
theorem q262 : (Jvm.Cond.instantiable "CreditBroker$Sheet" (1 : Nat)) ∈ lw_all := lw_g (lw_at lw_m1 166 rfl) rfl
theorem q264 : (Jvm.Cond.instanceMethod ({ cls := "CreditBroker$Sheet", name := "<init>", desc := "()V" } : Jvm.MethodName)) ∈ lw_all := lw_g (lw_at lw_m1 168 rfl) rfl
theorem q265 : (Jvm.Cond.code ({ cls := "CreditBroker$Sheet", name := "<init>", desc := "()V" } : Jvm.MethodName) prog_19_method_1_code (1 : Nat) (Option.none : Option Jvm.ClassFile.FieldType)) ∈ lw_all := lw_g (lw_at lw_m1 169 rfl) rfl
theorem q266 : (Jvm.Cond.methodLink "CreditBroker$Sheet" (1 : Nat) ({ cls := "java/lang/Object", name := "<init>", desc := "()V" } : Jvm.MethodName)) ∈ lw_all := lw_g (lw_at lw_m1 170 rfl) rfl
theorem q268 : (Jvm.Cond.lays "CreditBroker$Sheet" "CreditBroker$Sheet" "held" "Ljava/lang/Object;") ∈ lw_all := lw_g (lw_at lw_m1 172 rfl) rfl
theorem q269 : (Jvm.Cond.soleField "CreditBroker$Sheet" "held") ∈ lw_all := lw_g (lw_at lw_m1 173 rfl) rfl
theorem q270 : (Jvm.Cond.superclass "CreditBroker$Sheet" "java/lang/Object") ∈ lw_all := lw_g (lw_at lw_m1 174 rfl) rfl
theorem q1077 : (Jvm.Cond.selects "CreditBroker$Sheet" ({ cls := "java/lang/Object", name := "getClass", desc := "()Ljava/lang/Class;" } : Jvm.MethodName) ({ cls := "java/lang/Object", name := "getClass", desc := "()Ljava/lang/Class;" } : Jvm.MethodName)) ∈ lw_all := lw_g (lw_at lw_m5 21 rfl) rfl
theorem q1821 : (Jvm.Cond.selects "CreditBroker$Sheet" ({ cls := "java/lang/Object", name := "equals", desc := "(Ljava/lang/Object;)Z" } : Jvm.MethodName) ({ cls := "java/lang/Object", name := "equals", desc := "(Ljava/lang/Object;)Z" } : Jvm.MethodName)) ∈ lw_all := lw_g (lw_at lw_m8 45 rfl) rfl
theorem q3311 : (Jvm.Cond.castable "CreditBroker$Sheet" "java/lang/Object") ∈ lw_tbl := lw_at lw_m14 95 rfl
theorem in_X2 : ∀ w ∈ wsX20, w ∈ lw_all := lw_in wsX20 [268] (by decide +kernel) (by decide +kernel)
/-! CreditBroker$Old -/
def RX20 : String := "CreditBroker$Old"
def TX20 : u_T := fun k => match k with
  | 0 => ("CreditBroker$Cause", "time", "I", true)
  | 1 => ("CreditBroker$Cause", "by", "LCreditBroker$Cause;", true)
  | 2 => ("CreditBroker$Cause", "depth", "I", true)
  | _ => ("CreditBroker$Old", "age", "I", true)
def tyX20 : Nat → FieldType := fun k => match k with
  | 0 => .int
  | 1 => .object "CreditBroker$Cause"
  | 2 => .int
  | _ => .int
abbrev wsX200 : List Cond := u_ws RX20 TX20 4
theorem nmX20 : ∀ a, a < 4 → ∀ b, b < 4 → a ≠ b → (TX20 a).2.1 ≠ (TX20 b).2.1 := by decide +kernel
theorem tyX20_ok : ∀ k, k < 4 → parseFieldDescriptor (TX20 k).2.2.1 = some (tyX20 k) := by decide +kernel
abbrev cX20_kind : ByteArray := prog_12_method_2_code
def yX20_kind : MethodName := ⟨RX20, "kind", "()I"⟩
def dkwX20_kind_0 : List UInt8 := [42, 183, 0, 28, 6, 96, 172]
abbrev dktX20_kind_0 : List UInt8 := dkwX20_kind_0 ++ []
theorem dksX20_kind_0 : cX20_kind.data.toList.drop 0 = dktX20_kind_0 := by decide +kernel
theorem dX20_kind_0 : decode cX20_kind 0 = .ok (.aload_n 0, 1) := dk_42 (dk_at dksX20_kind_0 0 rfl rfl)
theorem dX20_kind_1 : decode cX20_kind 1 = .ok (.invokespecial 28, 3) := dk_183 0 28 (dk_at dksX20_kind_0 1 rfl rfl)
theorem dX20_kind_4 : decode cX20_kind 4 = .ok (.iconst 3, 1) := dk_6 (dk_at dksX20_kind_0 4 rfl rfl)
theorem dX20_kind_5 : decode cX20_kind 5 = .ok (.iadd, 1) := dk_96 (dk_at dksX20_kind_0 5 rfl rfl)
theorem dX20_kind_6 : decode cX20_kind 6 = .ok (.ireturn, 1) := dk_172 (dk_at dksX20_kind_0 6 rfl rfl)
abbrev cX20_age : ByteArray := prog_12_method_3_code
def yX20_age : MethodName := ⟨RX20, "age", "()I"⟩
theorem dX20_age_0 : decode cX20_age 0 = .ok (.aload_n 0, 1) := by decide +kernel
theorem dX20_age_1 : decode cX20_age 1 = .ok (.getfield 23, 3) := by decide +kernel
theorem dX20_age_4 : decode cX20_age 4 = .ok (.ireturn, 1) := by decide +kernel
abbrev cX20_init : ByteArray := prog_12_method_1_code
def yX20_init : MethodName := ⟨RX20, "<init>", "(ILCreditBroker$Letter;)V"⟩
def dkwX20_init_0 : List UInt8 := [42, 27, 44, 180, 0, 1, 183, 0, 7, 42, 27, 44, 180, 0, 13, 180, 0, 17, 100, 181, 0, 23, 177]
abbrev dktX20_init_0 : List UInt8 := dkwX20_init_0 ++ []
theorem dksX20_init_0 : cX20_init.data.toList.drop 0 = dktX20_init_0 := by decide +kernel
theorem dX20_init_0 : decode cX20_init 0 = .ok (.aload_n 0, 1) := dk_42 (dk_at dksX20_init_0 0 rfl rfl)
theorem dX20_init_1 : decode cX20_init 1 = .ok (.iload_n 1, 1) := dk_27 (dk_at dksX20_init_0 1 rfl rfl)
theorem dX20_init_2 : decode cX20_init 2 = .ok (.aload_n 2, 1) := dk_44 (dk_at dksX20_init_0 2 rfl rfl)
theorem dX20_init_3 : decode cX20_init 3 = .ok (.getfield 1, 3) := dk_180 0 1 (dk_at dksX20_init_0 3 rfl rfl)
theorem dX20_init_6 : decode cX20_init 6 = .ok (.invokespecial 7, 3) := dk_183 0 7 (dk_at dksX20_init_0 6 rfl rfl)
theorem dX20_init_9 : decode cX20_init 9 = .ok (.aload_n 0, 1) := dk_42 (dk_at dksX20_init_0 9 rfl rfl)
theorem dX20_init_10 : decode cX20_init 10 = .ok (.iload_n 1, 1) := dk_27 (dk_at dksX20_init_0 10 rfl rfl)
theorem dX20_init_11 : decode cX20_init 11 = .ok (.aload_n 2, 1) := dk_44 (dk_at dksX20_init_0 11 rfl rfl)
theorem dX20_init_12 : decode cX20_init 12 = .ok (.getfield 13, 3) := dk_180 0 13 (dk_at dksX20_init_0 12 rfl rfl)
theorem dX20_init_15 : decode cX20_init 15 = .ok (.getfield 17, 3) := dk_180 0 17 (dk_at dksX20_init_0 15 rfl rfl)
theorem dX20_init_18 : decode cX20_init 18 = .ok (.isub, 1) := dk_100 (dk_at dksX20_init_0 18 rfl rfl)
theorem dX20_init_19 : decode cX20_init 19 = .ok (.putfield 23, 3) := dk_181 0 23 (dk_at dksX20_init_0 19 rfl rfl)
theorem dX20_init_22 : decode cX20_init 22 = .ok (.return_, 1) := dk_177 (dk_at dksX20_init_0 22 rfl rfl)
theorem q148 : (Jvm.Cond.initialized "CreditBroker$Old") ∈ lw_all := lw_g (lw_at lw_m1 52 rfl) rfl
theorem q545 : (Jvm.Cond.selects "CreditBroker$Old" ({ cls := "CreditBroker$Cause", name := "kind", desc := "()I" } : Jvm.MethodName) ({ cls := "CreditBroker$Old", name := "kind", desc := "()I" } : Jvm.MethodName)) ∈ lw_all := lw_g (lw_at lw_m2 209 rfl) rfl
theorem q546 : (Jvm.Cond.instanceMethod ({ cls := "CreditBroker$Old", name := "kind", desc := "()I" } : Jvm.MethodName)) ∈ lw_all := lw_g (lw_at lw_m2 210 rfl) rfl
theorem q547 : (Jvm.Cond.code ({ cls := "CreditBroker$Old", name := "kind", desc := "()I" } : Jvm.MethodName) prog_12_method_2_code (1 : Nat) (Option.some Jvm.ClassFile.FieldType.int)) ∈ lw_all := lw_g (lw_at lw_m2 211 rfl) rfl
theorem q548 : (Jvm.Cond.methodLink "CreditBroker$Old" (28 : Nat) ({ cls := "CreditBroker$Loss", name := "kind", desc := "()I" } : Jvm.MethodName)) ∈ lw_all := lw_g (lw_at lw_m2 212 rfl) rfl
theorem q549 : (Jvm.Cond.superclass "CreditBroker$Old" "CreditBroker$Loss") ∈ lw_all := lw_g (lw_at lw_m2 213 rfl) rfl
theorem q853 : (Jvm.Cond.selects "CreditBroker$Old" ({ cls := "CreditBroker$Cause", name := "depth", desc := "()I" } : Jvm.MethodName) ({ cls := "CreditBroker$Cause", name := "depth", desc := "()I" } : Jvm.MethodName)) ∈ lw_all := lw_g (lw_at lw_m4 37 rfl) rfl
theorem q861 : (Jvm.Cond.selects "CreditBroker$Old" ({ cls := "CreditBroker$Cause", name := "link", desc := "(I)LCreditBroker$Cause;" } : Jvm.MethodName) ({ cls := "CreditBroker$Cause", name := "link", desc := "(I)LCreditBroker$Cause;" } : Jvm.MethodName)) ∈ lw_all := lw_g (lw_at lw_m4 45 rfl) rfl
theorem q889 : (Jvm.Cond.selects "CreditBroker$Old" ({ cls := "CreditBroker$Loss", name := "causes", desc := "()I" } : Jvm.MethodName) ({ cls := "CreditBroker$Loss", name := "causes", desc := "()I" } : Jvm.MethodName)) ∈ lw_all := lw_g (lw_at lw_m4 73 rfl) rfl
theorem q907 : (Jvm.Cond.instanceMethod ({ cls := "CreditBroker$Old", name := "age", desc := "()I" } : Jvm.MethodName)) ∈ lw_all := lw_g (lw_at lw_m4 91 rfl) rfl
theorem q908 : (Jvm.Cond.selects "CreditBroker$Old" ({ cls := "CreditBroker$Old", name := "age", desc := "()I" } : Jvm.MethodName) ({ cls := "CreditBroker$Old", name := "age", desc := "()I" } : Jvm.MethodName)) ∈ lw_all := lw_g (lw_at lw_m4 92 rfl) rfl
theorem q909 : (Jvm.Cond.code ({ cls := "CreditBroker$Old", name := "age", desc := "()I" } : Jvm.MethodName) prog_12_method_3_code (1 : Nat) (Option.some Jvm.ClassFile.FieldType.int)) ∈ lw_all := lw_g (lw_at lw_m4 93 rfl) rfl
theorem q1070 : (Jvm.Cond.selects "CreditBroker$Old" ({ cls := "java/lang/Object", name := "getClass", desc := "()Ljava/lang/Class;" } : Jvm.MethodName) ({ cls := "java/lang/Object", name := "getClass", desc := "()Ljava/lang/Class;" } : Jvm.MethodName)) ∈ lw_all := lw_g (lw_at lw_m5 14 rfl) rfl
theorem q1559 : (Jvm.Cond.fieldLink "CreditBroker$Old" (17 : Nat) "CreditBroker$Message" "time" "I") ∈ lw_all := lw_g (lw_at lw_m7 23 rfl) rfl
theorem q1707 : (Jvm.Cond.fieldLink "CreditBroker$Old" (13 : Nat) "CreditBroker$Letter" "message" "LCreditBroker$Message;") ∈ lw_all := lw_g (lw_at lw_m7 171 rfl) rfl
theorem q1729 : (Jvm.Cond.fieldLink "CreditBroker$Old" (1 : Nat) "CreditBroker$Letter" "cause" "LCreditBroker$Cause;") ∈ lw_all := lw_g (lw_at lw_m7 193 rfl) rfl
theorem q1814 : (Jvm.Cond.selects "CreditBroker$Old" ({ cls := "java/lang/Object", name := "equals", desc := "(Ljava/lang/Object;)Z" } : Jvm.MethodName) ({ cls := "java/lang/Object", name := "equals", desc := "(Ljava/lang/Object;)Z" } : Jvm.MethodName)) ∈ lw_all := lw_g (lw_at lw_m8 38 rfl) rfl
theorem q1928 : (Jvm.Cond.instantiable "CreditBroker$Old" (4 : Nat)) ∈ lw_all := lw_g (lw_at lw_m8 152 rfl) rfl
theorem q1930 : (Jvm.Cond.instanceMethod ({ cls := "CreditBroker$Old", name := "<init>", desc := "(ILCreditBroker$Letter;)V" } : Jvm.MethodName)) ∈ lw_all := lw_g (lw_at lw_m8 154 rfl) rfl
theorem q1931 : (Jvm.Cond.code ({ cls := "CreditBroker$Old", name := "<init>", desc := "(ILCreditBroker$Letter;)V" } : Jvm.MethodName) prog_12_method_1_code (3 : Nat) (Option.none : Option Jvm.ClassFile.FieldType)) ∈ lw_all := lw_g (lw_at lw_m8 155 rfl) rfl
theorem q1932 : (Jvm.Cond.methodLink "CreditBroker$Old" (7 : Nat) ({ cls := "CreditBroker$Loss", name := "<init>", desc := "(ILCreditBroker$Cause;)V" } : Jvm.MethodName)) ∈ lw_all := lw_g (lw_at lw_m8 156 rfl) rfl
theorem q1933 : (Jvm.Cond.fieldLink "CreditBroker$Old" (23 : Nat) "CreditBroker$Old" "age" "I") ∈ lw_all := lw_g (lw_at lw_m8 157 rfl) rfl
theorem q1934 : (Jvm.Cond.laysFinal "CreditBroker$Old" "CreditBroker$Old" "age" "I") ∈ lw_all := lw_g (lw_at lw_m8 158 rfl) rfl
theorem q1935 : (Jvm.Cond.soleField "CreditBroker$Old" "age") ∈ lw_all := lw_g (lw_at lw_m8 159 rfl) rfl
theorem q1936 : (Jvm.Cond.laysFinal "CreditBroker$Old" "CreditBroker$Cause" "time" "I") ∈ lw_all := lw_g (lw_at lw_m8 160 rfl) rfl
theorem q1937 : (Jvm.Cond.laysFinal "CreditBroker$Old" "CreditBroker$Cause" "by" "LCreditBroker$Cause;") ∈ lw_all := lw_g (lw_at lw_m8 161 rfl) rfl
theorem q1938 : (Jvm.Cond.laysFinal "CreditBroker$Old" "CreditBroker$Cause" "depth" "I") ∈ lw_all := lw_g (lw_at lw_m8 162 rfl) rfl
theorem q3304 : (Jvm.Cond.castable "CreditBroker$Old" "CreditBroker$Cause") ∈ lw_tbl := lw_at lw_m14 88 rfl
theorem q3309 : (Jvm.Cond.castable "CreditBroker$Old" "CreditBroker$Loss") ∈ lw_tbl := lw_at lw_m14 93 rfl
theorem q3340 : (Jvm.Cond.castable "CreditBroker$Old" "java/lang/Object") ∈ lw_tbl := lw_at lw_m14 124 rfl
theorem in_X20 : ∀ w ∈ wsX200, w ∈ lw_all := lw_in wsX200 [1936, 1937, 1938, 1934] (by decide +kernel) (by decide +kernel)
/-! CreditBroker$Refused -/
def RX4 : String := "CreditBroker$Refused"
def TX4 : u_T := fun k => match k with
  | 0 => ("java/lang/Throwable", "cause", "Ljava/lang/Throwable;", false)
  | 1 => ("java/lang/Throwable", "stackTrace", "[Ljava/lang/StackTraceElement;", false)
  | 2 => ("java/lang/Throwable", "suppressedExceptions", "Ljava/util/List;", false)
  | 3 => ("java/lang/Throwable", "detailMessage", "Ljava/lang/String;", false)
  | 4 => ("java/lang/Throwable", "backtrace", "Ljava/lang/Object;", false)
  | 5 => ("java/lang/Throwable", "depth", "I", false)
  | _ => ("CreditBroker$Refused", "by", "I", true)
def tyX4 : Nat → FieldType := fun k => match k with
  | 0 => .object "java/lang/Throwable"
  | 1 => .array (.object "java/lang/StackTraceElement")
  | 2 => .object "java/util/List"
  | 3 => .object "java/lang/String"
  | 4 => .object "java/lang/Object"
  | 5 => .int
  | _ => .int
abbrev wsX40 : List Cond := u_ws RX4 TX4 7
theorem nmX4 : ∀ a, a < 7 → ∀ b, b < 7 → a ≠ b → (TX4 a).2.1 ≠ (TX4 b).2.1 := by decide +kernel
theorem tyX4_ok : ∀ k, k < 7 → parseFieldDescriptor (TX4 k).2.2.1 = some (tyX4 k) := by decide +kernel
abbrev cX4_init : ByteArray := prog_17_method_1_code
def yX4_init : MethodName := ⟨RX4, "<init>", "(I)V"⟩
def dkwX4_init_0 : List UInt8 := [42, 1, 1, 3, 3, 183, 0, 1, 42, 27, 181, 0, 7, 177]
abbrev dktX4_init_0 : List UInt8 := dkwX4_init_0 ++ []
theorem dksX4_init_0 : cX4_init.data.toList.drop 0 = dktX4_init_0 := by decide +kernel
theorem dX4_init_0 : decode cX4_init 0 = .ok (.aload_n 0, 1) := dk_42 (dk_at dksX4_init_0 0 rfl rfl)
theorem dX4_init_1 : decode cX4_init 1 = .ok (.aconst_null, 1) := dk_1 (dk_at dksX4_init_0 1 rfl rfl)
theorem dX4_init_2 : decode cX4_init 2 = .ok (.aconst_null, 1) := dk_1 (dk_at dksX4_init_0 2 rfl rfl)
theorem dX4_init_3 : decode cX4_init 3 = .ok (.iconst 0, 1) := dk_3 (dk_at dksX4_init_0 3 rfl rfl)
theorem dX4_init_4 : decode cX4_init 4 = .ok (.iconst 0, 1) := dk_3 (dk_at dksX4_init_0 4 rfl rfl)
theorem dX4_init_5 : decode cX4_init 5 = .ok (.invokespecial 1, 3) := dk_183 0 1 (dk_at dksX4_init_0 5 rfl rfl)
theorem dX4_init_8 : decode cX4_init 8 = .ok (.aload_n 0, 1) := dk_42 (dk_at dksX4_init_0 8 rfl rfl)
theorem dX4_init_9 : decode cX4_init 9 = .ok (.iload_n 1, 1) := dk_27 (dk_at dksX4_init_0 9 rfl rfl)
theorem dX4_init_10 : decode cX4_init 10 = .ok (.putfield 7, 3) := dk_181 0 7 (dk_at dksX4_init_0 10 rfl rfl)
theorem dX4_init_13 : decode cX4_init 13 = .ok (.return_, 1) := dk_177 (dk_at dksX4_init_0 13 rfl rfl)
theorem q113 : (Jvm.Cond.initialized "CreditBroker$Refused") ∈ lw_all := lw_g (lw_at lw_m1 17 rfl) rfl
theorem q322 : (Jvm.Cond.selects "CreditBroker$Refused" ({ cls := "java/lang/Throwable", name := "fillInStackTrace", desc := "()Ljava/lang/Throwable;" } : Jvm.MethodName) ({ cls := "java/lang/Throwable", name := "fillInStackTrace", desc := "()Ljava/lang/Throwable;" } : Jvm.MethodName)) ∈ lw_all := lw_g (lw_at lw_m1 226 rfl) rfl
theorem q437 : (Jvm.Cond.instantiable "CreditBroker$Refused" (7 : Nat)) ∈ lw_all := lw_g (lw_at lw_m2 101 rfl) rfl
theorem q438 : (Jvm.Cond.castable "CreditBroker$Refused" "CreditBroker$Refused") ∈ lw_tbl := lw_at lw_m2 102 rfl
theorem q439 : (Jvm.Cond.selects "CreditBroker$Refused" ({ cls := "java/lang/Throwable", name := "fillInStackTrace", desc := "(I)Ljava/lang/Throwable;" } : Jvm.MethodName) ({ cls := "java/lang/Throwable", name := "fillInStackTrace", desc := "(I)Ljava/lang/Throwable;" } : Jvm.MethodName)) ∈ lw_all := lw_g (lw_at lw_m2 103 rfl) rfl
theorem q440 : (Jvm.Cond.lays "CreditBroker$Refused" "java/lang/Throwable" "cause" "Ljava/lang/Throwable;") ∈ lw_all := lw_g (lw_at lw_m2 104 rfl) rfl
theorem q441 : (Jvm.Cond.lays "CreditBroker$Refused" "java/lang/Throwable" "stackTrace" "[Ljava/lang/StackTraceElement;") ∈ lw_all := lw_g (lw_at lw_m2 105 rfl) rfl
theorem q442 : (Jvm.Cond.lays "CreditBroker$Refused" "java/lang/Throwable" "suppressedExceptions" "Ljava/util/List;") ∈ lw_all := lw_g (lw_at lw_m2 106 rfl) rfl
theorem q443 : (Jvm.Cond.lays "CreditBroker$Refused" "java/lang/Throwable" "detailMessage" "Ljava/lang/String;") ∈ lw_all := lw_g (lw_at lw_m2 107 rfl) rfl
theorem q444 : (Jvm.Cond.lays "CreditBroker$Refused" "java/lang/Throwable" "backtrace" "Ljava/lang/Object;") ∈ lw_all := lw_g (lw_at lw_m2 108 rfl) rfl
theorem q446 : (Jvm.Cond.instanceMethod ({ cls := "CreditBroker$Refused", name := "<init>", desc := "(I)V" } : Jvm.MethodName)) ∈ lw_all := lw_g (lw_at lw_m2 110 rfl) rfl
theorem q447 : (Jvm.Cond.code ({ cls := "CreditBroker$Refused", name := "<init>", desc := "(I)V" } : Jvm.MethodName) prog_17_method_1_code (2 : Nat) (Option.none : Option Jvm.ClassFile.FieldType)) ∈ lw_all := lw_g (lw_at lw_m2 111 rfl) rfl
theorem q448 : (Jvm.Cond.methodLink "CreditBroker$Refused" (1 : Nat) ({ cls := "java/lang/RuntimeException", name := "<init>", desc := "(Ljava/lang/String;Ljava/lang/Throwable;ZZ)V" } : Jvm.MethodName)) ∈ lw_all := lw_g (lw_at lw_m2 112 rfl) rfl
theorem q457 : (Jvm.Cond.fieldLink "CreditBroker$Refused" (7 : Nat) "CreditBroker$Refused" "by" "I") ∈ lw_all := lw_g (lw_at lw_m2 121 rfl) rfl
theorem q459 : (Jvm.Cond.laysFinal "CreditBroker$Refused" "CreditBroker$Refused" "by" "I") ∈ lw_all := lw_g (lw_at lw_m2 123 rfl) rfl
theorem q460 : (Jvm.Cond.soleField "CreditBroker$Refused" "by") ∈ lw_all := lw_g (lw_at lw_m2 124 rfl) rfl
theorem q461 : (Jvm.Cond.lays "CreditBroker$Refused" "java/lang/Throwable" "depth" "I") ∈ lw_all := lw_g (lw_at lw_m2 125 rfl) rfl
theorem q462 : (Jvm.Cond.superclass "CreditBroker$Refused" "java/lang/RuntimeException") ∈ lw_all := lw_g (lw_at lw_m2 126 rfl) rfl
theorem q1075 : (Jvm.Cond.selects "CreditBroker$Refused" ({ cls := "java/lang/Object", name := "getClass", desc := "()Ljava/lang/Class;" } : Jvm.MethodName) ({ cls := "java/lang/Object", name := "getClass", desc := "()Ljava/lang/Class;" } : Jvm.MethodName)) ∈ lw_all := lw_g (lw_at lw_m5 19 rfl) rfl
theorem q1407 : (Jvm.Cond.selects "CreditBroker$Refused" ({ cls := "java/lang/Throwable", name := "toString", desc := "()Ljava/lang/String;" } : Jvm.MethodName) ({ cls := "java/lang/Throwable", name := "toString", desc := "()Ljava/lang/String;" } : Jvm.MethodName)) ∈ lw_all := lw_g (lw_at lw_m6 111 rfl) rfl
theorem q1423 : (Jvm.Cond.selects "CreditBroker$Refused" ({ cls := "java/lang/Throwable", name := "getLocalizedMessage", desc := "()Ljava/lang/String;" } : Jvm.MethodName) ({ cls := "java/lang/Throwable", name := "getLocalizedMessage", desc := "()Ljava/lang/String;" } : Jvm.MethodName)) ∈ lw_all := lw_g (lw_at lw_m6 127 rfl) rfl
theorem q1438 : (Jvm.Cond.selects "CreditBroker$Refused" ({ cls := "java/lang/Throwable", name := "getMessage", desc := "()Ljava/lang/String;" } : Jvm.MethodName) ({ cls := "java/lang/Throwable", name := "getMessage", desc := "()Ljava/lang/String;" } : Jvm.MethodName)) ∈ lw_all := lw_g (lw_at lw_m6 142 rfl) rfl
theorem q1819 : (Jvm.Cond.selects "CreditBroker$Refused" ({ cls := "java/lang/Object", name := "equals", desc := "(Ljava/lang/Object;)Z" } : Jvm.MethodName) ({ cls := "java/lang/Object", name := "equals", desc := "(Ljava/lang/Object;)Z" } : Jvm.MethodName)) ∈ lw_all := lw_g (lw_at lw_m8 43 rfl) rfl
theorem q3319 : (Jvm.Cond.castable "CreditBroker$Refused" "java/lang/Object") ∈ lw_tbl := lw_at lw_m14 103 rfl
theorem in_X4 : ∀ w ∈ wsX40, w ∈ lw_all := lw_in wsX40 [440, 441, 442, 443, 444, 461, 459] (by decide +kernel) (by decide +kernel)
/-! CreditBroker$Reader -/
def RX5 : String := "CreditBroker$Reader"
def TX5 : u_T := fun k => match k with
  | 0 => ("CreditBroker$Reader", "at", "I", false)
  | _ => ("CreditBroker$Reader", "this$0", "LCreditBroker;", true)
def tyX5 : Nat → FieldType := fun k => match k with
  | 0 => .int
  | _ => .object "CreditBroker"
abbrev wsX50 : List Cond := u_ws RX5 TX5 2
theorem nmX5 : ∀ a, a < 2 → ∀ b, b < 2 → a ≠ b → (TX5 a).2.1 ≠ (TX5 b).2.1 := by decide +kernel
theorem tyX5_ok : ∀ k, k < 2 → parseFieldDescriptor (TX5 k).2.2.1 = some (tyX5 k) := by decide +kernel
abbrev cX5_init : ByteArray := prog_16_method_1_code
def yX5_init : MethodName := ⟨RX5, "<init>", "(LCreditBroker;)V"⟩
def dkwX5_init_0 : List UInt8 := [42, 43, 181, 0, 3, 42, 183, 0, 9, 177]
abbrev dktX5_init_0 : List UInt8 := dkwX5_init_0 ++ []
theorem dksX5_init_0 : cX5_init.data.toList.drop 0 = dktX5_init_0 := by decide +kernel
theorem dX5_init_0 : decode cX5_init 0 = .ok (.aload_n 0, 1) := dk_42 (dk_at dksX5_init_0 0 rfl rfl)
theorem dX5_init_1 : decode cX5_init 1 = .ok (.aload_n 1, 1) := dk_43 (dk_at dksX5_init_0 1 rfl rfl)
theorem dX5_init_2 : decode cX5_init 2 = .ok (.putfield 3, 3) := dk_181 0 3 (dk_at dksX5_init_0 2 rfl rfl)
theorem dX5_init_5 : decode cX5_init 5 = .ok (.aload_n 0, 1) := dk_42 (dk_at dksX5_init_0 5 rfl rfl)
theorem dX5_init_6 : decode cX5_init 6 = .ok (.invokespecial 9, 3) := dk_183 0 9 (dk_at dksX5_init_0 6 rfl rfl)
theorem dX5_init_9 : decode cX5_init 9 = .ok (.return_, 1) := dk_177 (dk_at dksX5_init_0 9 rfl rfl)
abbrev cX5_pattern : ByteArray := prog_16_method_6_code
def yX5_pattern : MethodName := ⟨RX5, "pattern", "(Z)LCreditBroker$Pattern;"⟩
def dkwX5_pattern_5 : List UInt8 := [181, 0, 15, 132, 4, 1, 167, 255, 151, 44, 176]
abbrev dktX5_pattern_5 : List UInt8 := dkwX5_pattern_5 ++ []
def dkwX5_pattern_4 : List UInt8 := [21, 6, 154, 0, 15, 187, 0, 41, 89, 42, 180, 0, 15, 183, 0, 43, 191, 42, 89, 180, 0, 15, 4, 96]
abbrev dktX5_pattern_4 : List UInt8 := dkwX5_pattern_4 ++ dktX5_pattern_5
def dkwX5_pattern_3 : List UInt8 := [21, 4, 7, 162, 0, 17, 25, 5, 18, 73, 182, 0, 75, 154, 0, 7, 4, 167, 0, 4, 3, 54, 6]
abbrev dktX5_pattern_3 : List UInt8 := dkwX5_pattern_3 ++ dktX5_pattern_4
def dkwX5_pattern_2 : List UInt8 := [162, 0, 7, 4, 167, 0, 4, 3, 62, 29, 153, 0, 64, 42, 16, 46, 16, 46, 182, 0, 33, 153, 0, 23]
abbrev dktX5_pattern_2 : List UInt8 := dkwX5_pattern_2 ++ dktX5_pattern_3
def dkwX5_pattern_1 : List UInt8 := [182, 0, 66, 58, 5, 44, 25, 5, 182, 0, 70, 42, 180, 0, 15, 42, 180, 0, 3, 180, 0, 19]
abbrev dktX5_pattern_1 : List UInt8 := dkwX5_pattern_1 ++ dktX5_pattern_2
def dkwX5_pattern_0 : List UInt8 := [187, 0, 58, 89, 42, 182, 0, 60, 183, 0, 63, 77, 4, 62, 4, 54, 4, 29, 153, 0, 107, 42, 27]
abbrev dktX5_pattern_0 : List UInt8 := dkwX5_pattern_0 ++ dktX5_pattern_1
theorem dksX5_pattern_0 : cX5_pattern.data.toList.drop 0 = dktX5_pattern_0 := by decide +kernel
theorem dksX5_pattern_1 : cX5_pattern.data.toList.drop 23 = dktX5_pattern_1 := dk_seg dksX5_pattern_0 23 rfl rfl
theorem dksX5_pattern_2 : cX5_pattern.data.toList.drop 45 = dktX5_pattern_2 := dk_seg dksX5_pattern_1 22 rfl rfl
theorem dksX5_pattern_3 : cX5_pattern.data.toList.drop 69 = dktX5_pattern_3 := dk_seg dksX5_pattern_2 24 rfl rfl
theorem dksX5_pattern_4 : cX5_pattern.data.toList.drop 92 = dktX5_pattern_4 := dk_seg dksX5_pattern_3 23 rfl rfl
theorem dksX5_pattern_5 : cX5_pattern.data.toList.drop 116 = dktX5_pattern_5 := dk_seg dksX5_pattern_4 24 rfl rfl
theorem dX5_pattern_0 : decode cX5_pattern 0 = .ok (.new 58, 3) := dk_187 0 58 (dk_at dksX5_pattern_0 0 rfl rfl)
theorem dX5_pattern_3 : decode cX5_pattern 3 = .ok (.dup, 1) := dk_89 (dk_at dksX5_pattern_0 3 rfl rfl)
theorem dX5_pattern_4 : decode cX5_pattern 4 = .ok (.aload_n 0, 1) := dk_42 (dk_at dksX5_pattern_0 4 rfl rfl)
theorem dX5_pattern_5 : decode cX5_pattern 5 = .ok (.invokevirtual 60, 3) := dk_182 0 60 (dk_at dksX5_pattern_0 5 rfl rfl)
theorem dX5_pattern_8 : decode cX5_pattern 8 = .ok (.invokespecial 63, 3) := dk_183 0 63 (dk_at dksX5_pattern_0 8 rfl rfl)
theorem dX5_pattern_11 : decode cX5_pattern 11 = .ok (.astore_n 2, 1) := dk_77 (dk_at dksX5_pattern_0 11 rfl rfl)
theorem dX5_pattern_12 : decode cX5_pattern 12 = .ok (.iconst 1, 1) := dk_4 (dk_at dksX5_pattern_0 12 rfl rfl)
theorem dX5_pattern_13 : decode cX5_pattern 13 = .ok (.istore_n 3, 1) := dk_62 (dk_at dksX5_pattern_0 13 rfl rfl)
theorem dX5_pattern_14 : decode cX5_pattern 14 = .ok (.iconst 1, 1) := dk_4 (dk_at dksX5_pattern_0 14 rfl rfl)
theorem dX5_pattern_15 : decode cX5_pattern 15 = .ok (.istore 4, 2) := dk_54 4 (dk_at dksX5_pattern_0 15 rfl rfl)
theorem dX5_pattern_17 : decode cX5_pattern 17 = .ok (.iload_n 3, 1) := dk_29 (dk_at dksX5_pattern_0 17 rfl rfl)
theorem dX5_pattern_18 : decode cX5_pattern 18 = .ok (.ifCond .eq 107, 3) := dk_153 0 107 (dk_at dksX5_pattern_0 18 rfl rfl)
theorem dX5_pattern_21 : decode cX5_pattern 21 = .ok (.aload_n 0, 1) := dk_42 (dk_at dksX5_pattern_0 21 rfl rfl)
theorem dX5_pattern_22 : decode cX5_pattern 22 = .ok (.iload_n 1, 1) := dk_27 (dk_at dksX5_pattern_0 22 rfl rfl)
theorem dX5_pattern_23 : decode cX5_pattern 23 = .ok (.invokevirtual 66, 3) := dk_182 0 66 (dk_at dksX5_pattern_1 0 rfl rfl)
theorem dX5_pattern_26 : decode cX5_pattern 26 = .ok (.astore 5, 2) := dk_58 5 (dk_at dksX5_pattern_1 3 rfl rfl)
theorem dX5_pattern_28 : decode cX5_pattern 28 = .ok (.aload_n 2, 1) := dk_44 (dk_at dksX5_pattern_1 5 rfl rfl)
theorem dX5_pattern_29 : decode cX5_pattern 29 = .ok (.aload 5, 2) := dk_25 5 (dk_at dksX5_pattern_1 6 rfl rfl)
theorem dX5_pattern_31 : decode cX5_pattern 31 = .ok (.invokevirtual 70, 3) := dk_182 0 70 (dk_at dksX5_pattern_1 8 rfl rfl)
theorem dX5_pattern_34 : decode cX5_pattern 34 = .ok (.aload_n 0, 1) := dk_42 (dk_at dksX5_pattern_1 11 rfl rfl)
theorem dX5_pattern_35 : decode cX5_pattern 35 = .ok (.getfield 15, 3) := dk_180 0 15 (dk_at dksX5_pattern_1 12 rfl rfl)
theorem dX5_pattern_38 : decode cX5_pattern 38 = .ok (.aload_n 0, 1) := dk_42 (dk_at dksX5_pattern_1 15 rfl rfl)
theorem dX5_pattern_39 : decode cX5_pattern 39 = .ok (.getfield 3, 3) := dk_180 0 3 (dk_at dksX5_pattern_1 16 rfl rfl)
theorem dX5_pattern_42 : decode cX5_pattern 42 = .ok (.getfield 19, 3) := dk_180 0 19 (dk_at dksX5_pattern_1 19 rfl rfl)
theorem dX5_pattern_45 : decode cX5_pattern 45 = .ok (.if_icmp .ge 7, 3) := dk_162 0 7 (dk_at dksX5_pattern_2 0 rfl rfl)
theorem dX5_pattern_48 : decode cX5_pattern 48 = .ok (.iconst 1, 1) := dk_4 (dk_at dksX5_pattern_2 3 rfl rfl)
theorem dX5_pattern_49 : decode cX5_pattern 49 = .ok (.goto 4, 3) := dk_167 0 4 (dk_at dksX5_pattern_2 4 rfl rfl)
theorem dX5_pattern_52 : decode cX5_pattern 52 = .ok (.iconst 0, 1) := dk_3 (dk_at dksX5_pattern_2 7 rfl rfl)
theorem dX5_pattern_53 : decode cX5_pattern 53 = .ok (.istore_n 3, 1) := dk_62 (dk_at dksX5_pattern_2 8 rfl rfl)
theorem dX5_pattern_54 : decode cX5_pattern 54 = .ok (.iload_n 3, 1) := dk_29 (dk_at dksX5_pattern_2 9 rfl rfl)
theorem dX5_pattern_55 : decode cX5_pattern 55 = .ok (.ifCond .eq 64, 3) := dk_153 0 64 (dk_at dksX5_pattern_2 10 rfl rfl)
theorem dX5_pattern_58 : decode cX5_pattern 58 = .ok (.aload_n 0, 1) := dk_42 (dk_at dksX5_pattern_2 13 rfl rfl)
theorem dX5_pattern_59 : decode cX5_pattern 59 = .ok (.bipush 46, 2) := dk_16 46 (dk_at dksX5_pattern_2 14 rfl rfl)
theorem dX5_pattern_61 : decode cX5_pattern 61 = .ok (.bipush 46, 2) := dk_16 46 (dk_at dksX5_pattern_2 16 rfl rfl)
theorem dX5_pattern_63 : decode cX5_pattern 63 = .ok (.invokevirtual 33, 3) := dk_182 0 33 (dk_at dksX5_pattern_2 18 rfl rfl)
theorem dX5_pattern_66 : decode cX5_pattern 66 = .ok (.ifCond .eq 23, 3) := dk_153 0 23 (dk_at dksX5_pattern_2 21 rfl rfl)
theorem dX5_pattern_69 : decode cX5_pattern 69 = .ok (.iload 4, 2) := dk_21 4 (dk_at dksX5_pattern_3 0 rfl rfl)
theorem dX5_pattern_71 : decode cX5_pattern 71 = .ok (.iconst 4, 1) := dk_7 (dk_at dksX5_pattern_3 2 rfl rfl)
theorem dX5_pattern_72 : decode cX5_pattern 72 = .ok (.if_icmp .ge 17, 3) := dk_162 0 17 (dk_at dksX5_pattern_3 3 rfl rfl)
theorem dX5_pattern_75 : decode cX5_pattern 75 = .ok (.aload 5, 2) := dk_25 5 (dk_at dksX5_pattern_3 6 rfl rfl)
theorem dX5_pattern_77 : decode cX5_pattern 77 = .ok (.ldc 73, 2) := dk_18 73 (dk_at dksX5_pattern_3 8 rfl rfl)
theorem dX5_pattern_79 : decode cX5_pattern 79 = .ok (.invokevirtual 75, 3) := dk_182 0 75 (dk_at dksX5_pattern_3 10 rfl rfl)
theorem dX5_pattern_82 : decode cX5_pattern 82 = .ok (.ifCond .ne 7, 3) := dk_154 0 7 (dk_at dksX5_pattern_3 13 rfl rfl)
theorem dX5_pattern_85 : decode cX5_pattern 85 = .ok (.iconst 1, 1) := dk_4 (dk_at dksX5_pattern_3 16 rfl rfl)
theorem dX5_pattern_86 : decode cX5_pattern 86 = .ok (.goto 4, 3) := dk_167 0 4 (dk_at dksX5_pattern_3 17 rfl rfl)
theorem dX5_pattern_89 : decode cX5_pattern 89 = .ok (.iconst 0, 1) := dk_3 (dk_at dksX5_pattern_3 20 rfl rfl)
theorem dX5_pattern_90 : decode cX5_pattern 90 = .ok (.istore 6, 2) := dk_54 6 (dk_at dksX5_pattern_3 21 rfl rfl)
theorem dX5_pattern_92 : decode cX5_pattern 92 = .ok (.iload 6, 2) := dk_21 6 (dk_at dksX5_pattern_4 0 rfl rfl)
theorem dX5_pattern_94 : decode cX5_pattern 94 = .ok (.ifCond .ne 15, 3) := dk_154 0 15 (dk_at dksX5_pattern_4 2 rfl rfl)
theorem dX5_pattern_97 : decode cX5_pattern 97 = .ok (.new 41, 3) := dk_187 0 41 (dk_at dksX5_pattern_4 5 rfl rfl)
theorem dX5_pattern_100 : decode cX5_pattern 100 = .ok (.dup, 1) := dk_89 (dk_at dksX5_pattern_4 8 rfl rfl)
theorem dX5_pattern_101 : decode cX5_pattern 101 = .ok (.aload_n 0, 1) := dk_42 (dk_at dksX5_pattern_4 9 rfl rfl)
theorem dX5_pattern_102 : decode cX5_pattern 102 = .ok (.getfield 15, 3) := dk_180 0 15 (dk_at dksX5_pattern_4 10 rfl rfl)
theorem dX5_pattern_105 : decode cX5_pattern 105 = .ok (.invokespecial 43, 3) := dk_183 0 43 (dk_at dksX5_pattern_4 13 rfl rfl)
theorem dX5_pattern_108 : decode cX5_pattern 108 = .ok (.athrow, 1) := dk_191 (dk_at dksX5_pattern_4 16 rfl rfl)
theorem dX5_pattern_109 : decode cX5_pattern 109 = .ok (.aload_n 0, 1) := dk_42 (dk_at dksX5_pattern_4 17 rfl rfl)
theorem dX5_pattern_110 : decode cX5_pattern 110 = .ok (.dup, 1) := dk_89 (dk_at dksX5_pattern_4 18 rfl rfl)
theorem dX5_pattern_111 : decode cX5_pattern 111 = .ok (.getfield 15, 3) := dk_180 0 15 (dk_at dksX5_pattern_4 19 rfl rfl)
theorem dX5_pattern_114 : decode cX5_pattern 114 = .ok (.iconst 1, 1) := dk_4 (dk_at dksX5_pattern_4 22 rfl rfl)
theorem dX5_pattern_115 : decode cX5_pattern 115 = .ok (.iadd, 1) := dk_96 (dk_at dksX5_pattern_4 23 rfl rfl)
theorem dX5_pattern_116 : decode cX5_pattern 116 = .ok (.putfield 15, 3) := dk_181 0 15 (dk_at dksX5_pattern_5 0 rfl rfl)
theorem dX5_pattern_119 : decode cX5_pattern 119 = .ok (.iinc 4 1, 3) := dk_132 4 1 (dk_at dksX5_pattern_5 3 rfl rfl)
theorem dX5_pattern_122 : decode cX5_pattern 122 = .ok (.goto (-105), 3) := dk_167 255 151 (dk_at dksX5_pattern_5 6 rfl rfl)
theorem dX5_pattern_125 : decode cX5_pattern 125 = .ok (.aload_n 2, 1) := dk_44 (dk_at dksX5_pattern_5 9 rfl rfl)
theorem dX5_pattern_126 : decode cX5_pattern 126 = .ok (.areturn, 1) := dk_176 (dk_at dksX5_pattern_5 10 rfl rfl)
abbrev cX5_text : ByteArray := prog_16_method_5_code
def yX5_text : MethodName := ⟨RX5, "text", "()Ljava/lang/String;"⟩
def dkwX5_text_1 : List UInt8 := [180, 0, 3, 180, 0, 22, 28, 46, 146, 182, 0, 37, 87, 132, 2, 1, 167, 255, 227, 43, 182, 0, 46, 176]
abbrev dktX5_text_1 : List UInt8 := dkwX5_text_1 ++ []
def dkwX5_text_0 : List UInt8 := [187, 0, 26, 89, 183, 0, 28, 76, 3, 61, 28, 42, 180, 0, 3, 180, 0, 19, 162, 0, 24, 43, 42]
abbrev dktX5_text_0 : List UInt8 := dkwX5_text_0 ++ dktX5_text_1
theorem dksX5_text_0 : cX5_text.data.toList.drop 0 = dktX5_text_0 := by decide +kernel
theorem dksX5_text_1 : cX5_text.data.toList.drop 23 = dktX5_text_1 := dk_seg dksX5_text_0 23 rfl rfl
theorem dX5_text_0 : decode cX5_text 0 = .ok (.new 26, 3) := dk_187 0 26 (dk_at dksX5_text_0 0 rfl rfl)
theorem dX5_text_3 : decode cX5_text 3 = .ok (.dup, 1) := dk_89 (dk_at dksX5_text_0 3 rfl rfl)
theorem dX5_text_4 : decode cX5_text 4 = .ok (.invokespecial 28, 3) := dk_183 0 28 (dk_at dksX5_text_0 4 rfl rfl)
theorem dX5_text_7 : decode cX5_text 7 = .ok (.astore_n 1, 1) := dk_76 (dk_at dksX5_text_0 7 rfl rfl)
theorem dX5_text_8 : decode cX5_text 8 = .ok (.iconst 0, 1) := dk_3 (dk_at dksX5_text_0 8 rfl rfl)
theorem dX5_text_9 : decode cX5_text 9 = .ok (.istore_n 2, 1) := dk_61 (dk_at dksX5_text_0 9 rfl rfl)
theorem dX5_text_10 : decode cX5_text 10 = .ok (.iload_n 2, 1) := dk_28 (dk_at dksX5_text_0 10 rfl rfl)
theorem dX5_text_11 : decode cX5_text 11 = .ok (.aload_n 0, 1) := dk_42 (dk_at dksX5_text_0 11 rfl rfl)
theorem dX5_text_12 : decode cX5_text 12 = .ok (.getfield 3, 3) := dk_180 0 3 (dk_at dksX5_text_0 12 rfl rfl)
theorem dX5_text_15 : decode cX5_text 15 = .ok (.getfield 19, 3) := dk_180 0 19 (dk_at dksX5_text_0 15 rfl rfl)
theorem dX5_text_18 : decode cX5_text 18 = .ok (.if_icmp .ge 24, 3) := dk_162 0 24 (dk_at dksX5_text_0 18 rfl rfl)
theorem dX5_text_21 : decode cX5_text 21 = .ok (.aload_n 1, 1) := dk_43 (dk_at dksX5_text_0 21 rfl rfl)
theorem dX5_text_22 : decode cX5_text 22 = .ok (.aload_n 0, 1) := dk_42 (dk_at dksX5_text_0 22 rfl rfl)
theorem dX5_text_23 : decode cX5_text 23 = .ok (.getfield 3, 3) := dk_180 0 3 (dk_at dksX5_text_1 0 rfl rfl)
theorem dX5_text_26 : decode cX5_text 26 = .ok (.getfield 22, 3) := dk_180 0 22 (dk_at dksX5_text_1 3 rfl rfl)
theorem dX5_text_29 : decode cX5_text 29 = .ok (.iload_n 2, 1) := dk_28 (dk_at dksX5_text_1 6 rfl rfl)
theorem dX5_text_30 : decode cX5_text 30 = .ok (.iaload, 1) := dk_46 (dk_at dksX5_text_1 7 rfl rfl)
theorem dX5_text_31 : decode cX5_text 31 = .ok (.i2c, 1) := dk_146 (dk_at dksX5_text_1 8 rfl rfl)
theorem dX5_text_32 : decode cX5_text 32 = .ok (.invokevirtual 37, 3) := dk_182 0 37 (dk_at dksX5_text_1 9 rfl rfl)
theorem dX5_text_35 : decode cX5_text 35 = .ok (.pop, 1) := dk_87 (dk_at dksX5_text_1 12 rfl rfl)
theorem dX5_text_36 : decode cX5_text 36 = .ok (.iinc 2 1, 3) := dk_132 2 1 (dk_at dksX5_text_1 13 rfl rfl)
theorem dX5_text_39 : decode cX5_text 39 = .ok (.goto (-29), 3) := dk_167 255 227 (dk_at dksX5_text_1 16 rfl rfl)
theorem dX5_text_42 : decode cX5_text 42 = .ok (.aload_n 1, 1) := dk_43 (dk_at dksX5_text_1 19 rfl rfl)
theorem dX5_text_43 : decode cX5_text 43 = .ok (.invokevirtual 46, 3) := dk_182 0 46 (dk_at dksX5_text_1 20 rfl rfl)
theorem dX5_text_46 : decode cX5_text 46 = .ok (.areturn, 1) := dk_176 (dk_at dksX5_text_1 23 rfl rfl)
abbrev cX5_part : ByteArray := prog_16_method_4_code
def yX5_part : MethodName := ⟨RX5, "part", "(Z)Ljava/lang/String;"⟩
def dkwX5_part_3 : List UInt8 := [176, 42, 182, 0, 55, 176]
abbrev dktX5_part_3 : List UInt8 := dkwX5_part_3 ++ []
def dkwX5_part_2 : List UInt8 := [182, 0, 52, 42, 180, 0, 3, 180, 0, 22, 42, 180, 0, 15, 4, 100, 46, 146, 182, 0, 37, 182, 0, 46]
abbrev dktX5_part_2 : List UInt8 := dkwX5_part_2 ++ dktX5_part_3
def dkwX5_part_1 : List UInt8 := [153, 0, 47, 42, 89, 180, 0, 15, 4, 96, 181, 0, 15, 187, 0, 26, 89, 183, 0, 28, 18, 50]
abbrev dktX5_part_1 : List UInt8 := dkwX5_part_1 ++ dktX5_part_2
def dkwX5_part_0 : List UInt8 := [27, 153, 0, 69, 42, 16, 42, 16, 42, 182, 0, 33, 154, 0, 14, 42, 16, 35, 16, 35, 182, 0, 33]
abbrev dktX5_part_0 : List UInt8 := dkwX5_part_0 ++ dktX5_part_1
theorem dksX5_part_0 : cX5_part.data.toList.drop 0 = dktX5_part_0 := by decide +kernel
theorem dksX5_part_1 : cX5_part.data.toList.drop 23 = dktX5_part_1 := dk_seg dksX5_part_0 23 rfl rfl
theorem dksX5_part_2 : cX5_part.data.toList.drop 45 = dktX5_part_2 := dk_seg dksX5_part_1 22 rfl rfl
theorem dksX5_part_3 : cX5_part.data.toList.drop 69 = dktX5_part_3 := dk_seg dksX5_part_2 24 rfl rfl
theorem dX5_part_0 : decode cX5_part 0 = .ok (.iload_n 1, 1) := dk_27 (dk_at dksX5_part_0 0 rfl rfl)
theorem dX5_part_1 : decode cX5_part 1 = .ok (.ifCond .eq 69, 3) := dk_153 0 69 (dk_at dksX5_part_0 1 rfl rfl)
theorem dX5_part_4 : decode cX5_part 4 = .ok (.aload_n 0, 1) := dk_42 (dk_at dksX5_part_0 4 rfl rfl)
theorem dX5_part_5 : decode cX5_part 5 = .ok (.bipush 42, 2) := dk_16 42 (dk_at dksX5_part_0 5 rfl rfl)
theorem dX5_part_7 : decode cX5_part 7 = .ok (.bipush 42, 2) := dk_16 42 (dk_at dksX5_part_0 7 rfl rfl)
theorem dX5_part_9 : decode cX5_part 9 = .ok (.invokevirtual 33, 3) := dk_182 0 33 (dk_at dksX5_part_0 9 rfl rfl)
theorem dX5_part_12 : decode cX5_part 12 = .ok (.ifCond .ne 14, 3) := dk_154 0 14 (dk_at dksX5_part_0 12 rfl rfl)
theorem dX5_part_15 : decode cX5_part 15 = .ok (.aload_n 0, 1) := dk_42 (dk_at dksX5_part_0 15 rfl rfl)
theorem dX5_part_16 : decode cX5_part 16 = .ok (.bipush 35, 2) := dk_16 35 (dk_at dksX5_part_0 16 rfl rfl)
theorem dX5_part_18 : decode cX5_part 18 = .ok (.bipush 35, 2) := dk_16 35 (dk_at dksX5_part_0 18 rfl rfl)
theorem dX5_part_20 : decode cX5_part 20 = .ok (.invokevirtual 33, 3) := dk_182 0 33 (dk_at dksX5_part_0 20 rfl rfl)
theorem dX5_part_23 : decode cX5_part 23 = .ok (.ifCond .eq 47, 3) := dk_153 0 47 (dk_at dksX5_part_1 0 rfl rfl)
theorem dX5_part_26 : decode cX5_part 26 = .ok (.aload_n 0, 1) := dk_42 (dk_at dksX5_part_1 3 rfl rfl)
theorem dX5_part_27 : decode cX5_part 27 = .ok (.dup, 1) := dk_89 (dk_at dksX5_part_1 4 rfl rfl)
theorem dX5_part_28 : decode cX5_part 28 = .ok (.getfield 15, 3) := dk_180 0 15 (dk_at dksX5_part_1 5 rfl rfl)
theorem dX5_part_31 : decode cX5_part 31 = .ok (.iconst 1, 1) := dk_4 (dk_at dksX5_part_1 8 rfl rfl)
theorem dX5_part_32 : decode cX5_part 32 = .ok (.iadd, 1) := dk_96 (dk_at dksX5_part_1 9 rfl rfl)
theorem dX5_part_33 : decode cX5_part 33 = .ok (.putfield 15, 3) := dk_181 0 15 (dk_at dksX5_part_1 10 rfl rfl)
theorem dX5_part_36 : decode cX5_part 36 = .ok (.new 26, 3) := dk_187 0 26 (dk_at dksX5_part_1 13 rfl rfl)
theorem dX5_part_39 : decode cX5_part 39 = .ok (.dup, 1) := dk_89 (dk_at dksX5_part_1 16 rfl rfl)
theorem dX5_part_40 : decode cX5_part 40 = .ok (.invokespecial 28, 3) := dk_183 0 28 (dk_at dksX5_part_1 17 rfl rfl)
theorem dX5_part_43 : decode cX5_part 43 = .ok (.ldc 50, 2) := dk_18 50 (dk_at dksX5_part_1 20 rfl rfl)
theorem dX5_part_45 : decode cX5_part 45 = .ok (.invokevirtual 52, 3) := dk_182 0 52 (dk_at dksX5_part_2 0 rfl rfl)
theorem dX5_part_48 : decode cX5_part 48 = .ok (.aload_n 0, 1) := dk_42 (dk_at dksX5_part_2 3 rfl rfl)
theorem dX5_part_49 : decode cX5_part 49 = .ok (.getfield 3, 3) := dk_180 0 3 (dk_at dksX5_part_2 4 rfl rfl)
theorem dX5_part_52 : decode cX5_part 52 = .ok (.getfield 22, 3) := dk_180 0 22 (dk_at dksX5_part_2 7 rfl rfl)
theorem dX5_part_55 : decode cX5_part 55 = .ok (.aload_n 0, 1) := dk_42 (dk_at dksX5_part_2 10 rfl rfl)
theorem dX5_part_56 : decode cX5_part 56 = .ok (.getfield 15, 3) := dk_180 0 15 (dk_at dksX5_part_2 11 rfl rfl)
theorem dX5_part_59 : decode cX5_part 59 = .ok (.iconst 1, 1) := dk_4 (dk_at dksX5_part_2 14 rfl rfl)
theorem dX5_part_60 : decode cX5_part 60 = .ok (.isub, 1) := dk_100 (dk_at dksX5_part_2 15 rfl rfl)
theorem dX5_part_61 : decode cX5_part 61 = .ok (.iaload, 1) := dk_46 (dk_at dksX5_part_2 16 rfl rfl)
theorem dX5_part_62 : decode cX5_part 62 = .ok (.i2c, 1) := dk_146 (dk_at dksX5_part_2 17 rfl rfl)
theorem dX5_part_63 : decode cX5_part 63 = .ok (.invokevirtual 37, 3) := dk_182 0 37 (dk_at dksX5_part_2 18 rfl rfl)
theorem dX5_part_66 : decode cX5_part 66 = .ok (.invokevirtual 46, 3) := dk_182 0 46 (dk_at dksX5_part_2 21 rfl rfl)
theorem dX5_part_69 : decode cX5_part 69 = .ok (.areturn, 1) := dk_176 (dk_at dksX5_part_3 0 rfl rfl)
theorem dX5_part_70 : decode cX5_part 70 = .ok (.aload_n 0, 1) := dk_42 (dk_at dksX5_part_3 1 rfl rfl)
theorem dX5_part_71 : decode cX5_part 71 = .ok (.invokevirtual 55, 3) := dk_182 0 55 (dk_at dksX5_part_3 2 rfl rfl)
theorem dX5_part_74 : decode cX5_part 74 = .ok (.areturn, 1) := dk_176 (dk_at dksX5_part_3 5 rfl rfl)
abbrev cX5_is : ByteArray := prog_16_method_2_code
def yX5_is : MethodName := ⟨RX5, "is", "(II)Z"⟩
def dkwX5_is_2 : List UInt8 := [4, 167, 0, 4, 3, 172]
abbrev dktX5_is_2 : List UInt8 := dkwX5_is_2 ++ []
def dkwX5_is_1 : List UInt8 := [180, 0, 15, 46, 27, 161, 0, 23, 42, 180, 0, 3, 180, 0, 22, 42, 180, 0, 15, 46, 28, 163, 0, 7]
abbrev dktX5_is_1 : List UInt8 := dkwX5_is_1 ++ dktX5_is_2
def dkwX5_is_0 : List UInt8 := [42, 180, 0, 15, 42, 180, 0, 3, 180, 0, 19, 162, 0, 39, 42, 180, 0, 3, 180, 0, 22, 42]
abbrev dktX5_is_0 : List UInt8 := dkwX5_is_0 ++ dktX5_is_1
theorem dksX5_is_0 : cX5_is.data.toList.drop 0 = dktX5_is_0 := by decide +kernel
theorem dksX5_is_1 : cX5_is.data.toList.drop 22 = dktX5_is_1 := dk_seg dksX5_is_0 22 rfl rfl
theorem dksX5_is_2 : cX5_is.data.toList.drop 46 = dktX5_is_2 := dk_seg dksX5_is_1 24 rfl rfl
theorem dX5_is_0 : decode cX5_is 0 = .ok (.aload_n 0, 1) := dk_42 (dk_at dksX5_is_0 0 rfl rfl)
theorem dX5_is_1 : decode cX5_is 1 = .ok (.getfield 15, 3) := dk_180 0 15 (dk_at dksX5_is_0 1 rfl rfl)
theorem dX5_is_4 : decode cX5_is 4 = .ok (.aload_n 0, 1) := dk_42 (dk_at dksX5_is_0 4 rfl rfl)
theorem dX5_is_5 : decode cX5_is 5 = .ok (.getfield 3, 3) := dk_180 0 3 (dk_at dksX5_is_0 5 rfl rfl)
theorem dX5_is_8 : decode cX5_is 8 = .ok (.getfield 19, 3) := dk_180 0 19 (dk_at dksX5_is_0 8 rfl rfl)
theorem dX5_is_11 : decode cX5_is 11 = .ok (.if_icmp .ge 39, 3) := dk_162 0 39 (dk_at dksX5_is_0 11 rfl rfl)
theorem dX5_is_14 : decode cX5_is 14 = .ok (.aload_n 0, 1) := dk_42 (dk_at dksX5_is_0 14 rfl rfl)
theorem dX5_is_15 : decode cX5_is 15 = .ok (.getfield 3, 3) := dk_180 0 3 (dk_at dksX5_is_0 15 rfl rfl)
theorem dX5_is_18 : decode cX5_is 18 = .ok (.getfield 22, 3) := dk_180 0 22 (dk_at dksX5_is_0 18 rfl rfl)
theorem dX5_is_21 : decode cX5_is 21 = .ok (.aload_n 0, 1) := dk_42 (dk_at dksX5_is_0 21 rfl rfl)
theorem dX5_is_22 : decode cX5_is 22 = .ok (.getfield 15, 3) := dk_180 0 15 (dk_at dksX5_is_1 0 rfl rfl)
theorem dX5_is_25 : decode cX5_is 25 = .ok (.iaload, 1) := dk_46 (dk_at dksX5_is_1 3 rfl rfl)
theorem dX5_is_26 : decode cX5_is 26 = .ok (.iload_n 1, 1) := dk_27 (dk_at dksX5_is_1 4 rfl rfl)
theorem dX5_is_27 : decode cX5_is 27 = .ok (.if_icmp .lt 23, 3) := dk_161 0 23 (dk_at dksX5_is_1 5 rfl rfl)
theorem dX5_is_30 : decode cX5_is 30 = .ok (.aload_n 0, 1) := dk_42 (dk_at dksX5_is_1 8 rfl rfl)
theorem dX5_is_31 : decode cX5_is 31 = .ok (.getfield 3, 3) := dk_180 0 3 (dk_at dksX5_is_1 9 rfl rfl)
theorem dX5_is_34 : decode cX5_is 34 = .ok (.getfield 22, 3) := dk_180 0 22 (dk_at dksX5_is_1 12 rfl rfl)
theorem dX5_is_37 : decode cX5_is 37 = .ok (.aload_n 0, 1) := dk_42 (dk_at dksX5_is_1 15 rfl rfl)
theorem dX5_is_38 : decode cX5_is 38 = .ok (.getfield 15, 3) := dk_180 0 15 (dk_at dksX5_is_1 16 rfl rfl)
theorem dX5_is_41 : decode cX5_is 41 = .ok (.iaload, 1) := dk_46 (dk_at dksX5_is_1 19 rfl rfl)
theorem dX5_is_42 : decode cX5_is 42 = .ok (.iload_n 2, 1) := dk_28 (dk_at dksX5_is_1 20 rfl rfl)
theorem dX5_is_43 : decode cX5_is 43 = .ok (.if_icmp .gt 7, 3) := dk_163 0 7 (dk_at dksX5_is_1 21 rfl rfl)
theorem dX5_is_46 : decode cX5_is 46 = .ok (.iconst 1, 1) := dk_4 (dk_at dksX5_is_2 0 rfl rfl)
theorem dX5_is_47 : decode cX5_is 47 = .ok (.goto 4, 3) := dk_167 0 4 (dk_at dksX5_is_2 1 rfl rfl)
theorem dX5_is_50 : decode cX5_is 50 = .ok (.iconst 0, 1) := dk_3 (dk_at dksX5_is_2 4 rfl rfl)
theorem dX5_is_51 : decode cX5_is 51 = .ok (.ireturn, 1) := dk_172 (dk_at dksX5_is_2 5 rfl rfl)
abbrev cX5_word : ByteArray := prog_16_method_3_code
def yX5_word : MethodName := ⟨RX5, "word", "()Ljava/lang/String;"⟩
def dkwX5_word_3 : List UInt8 := [180, 0, 15, 183, 0, 43, 191, 43, 182, 0, 46, 176]
abbrev dktX5_word_3 : List UInt8 := dkwX5_word_3 ++ []
def dkwX5_word_2 : List UInt8 := [180, 0, 15, 4, 96, 181, 0, 15, 167, 255, 209, 43, 182, 0, 29, 154, 0, 15, 187, 0, 41, 89, 42]
abbrev dktX5_word_2 : List UInt8 := dkwX5_word_2 ++ dktX5_word_3
def dkwX5_word_1 : List UInt8 := [153, 0, 34, 43, 42, 180, 0, 3, 180, 0, 22, 42, 180, 0, 15, 46, 146, 182, 0, 37, 87, 42, 89]
abbrev dktX5_word_1 : List UInt8 := dkwX5_word_1 ++ dktX5_word_2
def dkwX5_word_0 : List UInt8 := [187, 0, 26, 89, 183, 0, 28, 76, 43, 182, 0, 29, 7, 162, 0, 45, 42, 16, 97, 16, 122, 182, 0, 33]
abbrev dktX5_word_0 : List UInt8 := dkwX5_word_0 ++ dktX5_word_1
theorem dksX5_word_0 : cX5_word.data.toList.drop 0 = dktX5_word_0 := by decide +kernel
theorem dksX5_word_1 : cX5_word.data.toList.drop 24 = dktX5_word_1 := dk_seg dksX5_word_0 24 rfl rfl
theorem dksX5_word_2 : cX5_word.data.toList.drop 47 = dktX5_word_2 := dk_seg dksX5_word_1 23 rfl rfl
theorem dksX5_word_3 : cX5_word.data.toList.drop 70 = dktX5_word_3 := dk_seg dksX5_word_2 23 rfl rfl
theorem dX5_word_0 : decode cX5_word 0 = .ok (.new 26, 3) := dk_187 0 26 (dk_at dksX5_word_0 0 rfl rfl)
theorem dX5_word_3 : decode cX5_word 3 = .ok (.dup, 1) := dk_89 (dk_at dksX5_word_0 3 rfl rfl)
theorem dX5_word_4 : decode cX5_word 4 = .ok (.invokespecial 28, 3) := dk_183 0 28 (dk_at dksX5_word_0 4 rfl rfl)
theorem dX5_word_7 : decode cX5_word 7 = .ok (.astore_n 1, 1) := dk_76 (dk_at dksX5_word_0 7 rfl rfl)
theorem dX5_word_8 : decode cX5_word 8 = .ok (.aload_n 1, 1) := dk_43 (dk_at dksX5_word_0 8 rfl rfl)
theorem dX5_word_9 : decode cX5_word 9 = .ok (.invokevirtual 29, 3) := dk_182 0 29 (dk_at dksX5_word_0 9 rfl rfl)
theorem dX5_word_12 : decode cX5_word 12 = .ok (.iconst 4, 1) := dk_7 (dk_at dksX5_word_0 12 rfl rfl)
theorem dX5_word_13 : decode cX5_word 13 = .ok (.if_icmp .ge 45, 3) := dk_162 0 45 (dk_at dksX5_word_0 13 rfl rfl)
theorem dX5_word_16 : decode cX5_word 16 = .ok (.aload_n 0, 1) := dk_42 (dk_at dksX5_word_0 16 rfl rfl)
theorem dX5_word_17 : decode cX5_word 17 = .ok (.bipush 97, 2) := dk_16 97 (dk_at dksX5_word_0 17 rfl rfl)
theorem dX5_word_19 : decode cX5_word 19 = .ok (.bipush 122, 2) := dk_16 122 (dk_at dksX5_word_0 19 rfl rfl)
theorem dX5_word_21 : decode cX5_word 21 = .ok (.invokevirtual 33, 3) := dk_182 0 33 (dk_at dksX5_word_0 21 rfl rfl)
theorem dX5_word_24 : decode cX5_word 24 = .ok (.ifCond .eq 34, 3) := dk_153 0 34 (dk_at dksX5_word_1 0 rfl rfl)
theorem dX5_word_27 : decode cX5_word 27 = .ok (.aload_n 1, 1) := dk_43 (dk_at dksX5_word_1 3 rfl rfl)
theorem dX5_word_28 : decode cX5_word 28 = .ok (.aload_n 0, 1) := dk_42 (dk_at dksX5_word_1 4 rfl rfl)
theorem dX5_word_29 : decode cX5_word 29 = .ok (.getfield 3, 3) := dk_180 0 3 (dk_at dksX5_word_1 5 rfl rfl)
theorem dX5_word_32 : decode cX5_word 32 = .ok (.getfield 22, 3) := dk_180 0 22 (dk_at dksX5_word_1 8 rfl rfl)
theorem dX5_word_35 : decode cX5_word 35 = .ok (.aload_n 0, 1) := dk_42 (dk_at dksX5_word_1 11 rfl rfl)
theorem dX5_word_36 : decode cX5_word 36 = .ok (.getfield 15, 3) := dk_180 0 15 (dk_at dksX5_word_1 12 rfl rfl)
theorem dX5_word_39 : decode cX5_word 39 = .ok (.iaload, 1) := dk_46 (dk_at dksX5_word_1 15 rfl rfl)
theorem dX5_word_40 : decode cX5_word 40 = .ok (.i2c, 1) := dk_146 (dk_at dksX5_word_1 16 rfl rfl)
theorem dX5_word_41 : decode cX5_word 41 = .ok (.invokevirtual 37, 3) := dk_182 0 37 (dk_at dksX5_word_1 17 rfl rfl)
theorem dX5_word_44 : decode cX5_word 44 = .ok (.pop, 1) := dk_87 (dk_at dksX5_word_1 20 rfl rfl)
theorem dX5_word_45 : decode cX5_word 45 = .ok (.aload_n 0, 1) := dk_42 (dk_at dksX5_word_1 21 rfl rfl)
theorem dX5_word_46 : decode cX5_word 46 = .ok (.dup, 1) := dk_89 (dk_at dksX5_word_1 22 rfl rfl)
theorem dX5_word_47 : decode cX5_word 47 = .ok (.getfield 15, 3) := dk_180 0 15 (dk_at dksX5_word_2 0 rfl rfl)
theorem dX5_word_50 : decode cX5_word 50 = .ok (.iconst 1, 1) := dk_4 (dk_at dksX5_word_2 3 rfl rfl)
theorem dX5_word_51 : decode cX5_word 51 = .ok (.iadd, 1) := dk_96 (dk_at dksX5_word_2 4 rfl rfl)
theorem dX5_word_52 : decode cX5_word 52 = .ok (.putfield 15, 3) := dk_181 0 15 (dk_at dksX5_word_2 5 rfl rfl)
theorem dX5_word_55 : decode cX5_word 55 = .ok (.goto (-47), 3) := dk_167 255 209 (dk_at dksX5_word_2 8 rfl rfl)
theorem dX5_word_58 : decode cX5_word 58 = .ok (.aload_n 1, 1) := dk_43 (dk_at dksX5_word_2 11 rfl rfl)
theorem dX5_word_59 : decode cX5_word 59 = .ok (.invokevirtual 29, 3) := dk_182 0 29 (dk_at dksX5_word_2 12 rfl rfl)
theorem dX5_word_62 : decode cX5_word 62 = .ok (.ifCond .ne 15, 3) := dk_154 0 15 (dk_at dksX5_word_2 15 rfl rfl)
theorem dX5_word_65 : decode cX5_word 65 = .ok (.new 41, 3) := dk_187 0 41 (dk_at dksX5_word_2 18 rfl rfl)
theorem dX5_word_68 : decode cX5_word 68 = .ok (.dup, 1) := dk_89 (dk_at dksX5_word_2 21 rfl rfl)
theorem dX5_word_69 : decode cX5_word 69 = .ok (.aload_n 0, 1) := dk_42 (dk_at dksX5_word_2 22 rfl rfl)
theorem dX5_word_70 : decode cX5_word 70 = .ok (.getfield 15, 3) := dk_180 0 15 (dk_at dksX5_word_3 0 rfl rfl)
theorem dX5_word_73 : decode cX5_word 73 = .ok (.invokespecial 43, 3) := dk_183 0 43 (dk_at dksX5_word_3 3 rfl rfl)
theorem dX5_word_76 : decode cX5_word 76 = .ok (.athrow, 1) := dk_191 (dk_at dksX5_word_3 6 rfl rfl)
theorem dX5_word_77 : decode cX5_word 77 = .ok (.aload_n 1, 1) := dk_43 (dk_at dksX5_word_3 7 rfl rfl)
theorem dX5_word_78 : decode cX5_word 78 = .ok (.invokevirtual 46, 3) := dk_182 0 46 (dk_at dksX5_word_3 8 rfl rfl)
theorem dX5_word_81 : decode cX5_word 81 = .ok (.areturn, 1) := dk_176 (dk_at dksX5_word_3 11 rfl rfl)
theorem q128 : (Jvm.Cond.initialized "CreditBroker$Reader") ∈ lw_all := lw_g (lw_at lw_m1 32 rfl) rfl
theorem q276 : (Jvm.Cond.fieldLinkNest "CreditBroker$Reader" (22 : Nat) "CreditBroker" "tape" "[I" "CreditBroker") ∈ lw_tbl := lw_at lw_m1 180 rfl
theorem q278 : (Jvm.Cond.fieldLinkNest "CreditBroker$Reader" (19 : Nat) "CreditBroker" "size" "I" "CreditBroker") ∈ lw_tbl := lw_at lw_m1 182 rfl
theorem q929 : (Jvm.Cond.instantiable "CreditBroker$Reader" (2 : Nat)) ∈ lw_all := lw_g (lw_at lw_m4 113 rfl) rfl
theorem q931 : (Jvm.Cond.instanceMethod ({ cls := "CreditBroker$Reader", name := "<init>", desc := "(LCreditBroker;)V" } : Jvm.MethodName)) ∈ lw_all := lw_g (lw_at lw_m4 115 rfl) rfl
theorem q932 : (Jvm.Cond.code ({ cls := "CreditBroker$Reader", name := "<init>", desc := "(LCreditBroker;)V" } : Jvm.MethodName) prog_16_method_1_code (2 : Nat) (Option.none : Option Jvm.ClassFile.FieldType)) ∈ lw_all := lw_g (lw_at lw_m4 116 rfl) rfl
theorem q933 : (Jvm.Cond.methodLink "CreditBroker$Reader" (9 : Nat) ({ cls := "java/lang/Object", name := "<init>", desc := "()V" } : Jvm.MethodName)) ∈ lw_all := lw_g (lw_at lw_m4 117 rfl) rfl
theorem q934 : (Jvm.Cond.fieldLink "CreditBroker$Reader" (15 : Nat) "CreditBroker$Reader" "at" "I") ∈ lw_all := lw_g (lw_at lw_m4 118 rfl) rfl
theorem q935 : (Jvm.Cond.fieldLink "CreditBroker$Reader" (3 : Nat) "CreditBroker$Reader" "this$0" "LCreditBroker;") ∈ lw_all := lw_g (lw_at lw_m4 119 rfl) rfl
theorem q936 : (Jvm.Cond.lays "CreditBroker$Reader" "CreditBroker$Reader" "at" "I") ∈ lw_all := lw_g (lw_at lw_m4 120 rfl) rfl
theorem q937 : (Jvm.Cond.soleField "CreditBroker$Reader" "at") ∈ lw_all := lw_g (lw_at lw_m4 121 rfl) rfl
theorem q938 : (Jvm.Cond.laysFinal "CreditBroker$Reader" "CreditBroker$Reader" "this$0" "LCreditBroker;") ∈ lw_all := lw_g (lw_at lw_m4 122 rfl) rfl
theorem q939 : (Jvm.Cond.soleField "CreditBroker$Reader" "this$0") ∈ lw_all := lw_g (lw_at lw_m4 123 rfl) rfl
theorem q940 : (Jvm.Cond.superclass "CreditBroker$Reader" "java/lang/Object") ∈ lw_all := lw_g (lw_at lw_m4 124 rfl) rfl
theorem q942 : (Jvm.Cond.instanceMethod ({ cls := "CreditBroker$Reader", name := "pattern", desc := "(Z)LCreditBroker$Pattern;" } : Jvm.MethodName)) ∈ lw_all := lw_g (lw_at lw_m4 126 rfl) rfl
theorem q943 : (Jvm.Cond.selects "CreditBroker$Reader" ({ cls := "CreditBroker$Reader", name := "pattern", desc := "(Z)LCreditBroker$Pattern;" } : Jvm.MethodName) ({ cls := "CreditBroker$Reader", name := "pattern", desc := "(Z)LCreditBroker$Pattern;" } : Jvm.MethodName)) ∈ lw_all := lw_g (lw_at lw_m4 127 rfl) rfl
theorem q944 : (Jvm.Cond.code ({ cls := "CreditBroker$Reader", name := "pattern", desc := "(Z)LCreditBroker$Pattern;" } : Jvm.MethodName) prog_16_method_6_code (7 : Nat) (Option.some (Jvm.ClassFile.FieldType.object "CreditBroker$Pattern"))) ∈ lw_all := lw_g (lw_at lw_m4 128 rfl) rfl
theorem q945 : (Jvm.Cond.classLink "CreditBroker$Reader" (58 : Nat) "CreditBroker$Pattern") ∈ lw_all := lw_g (lw_at lw_m4 129 rfl) rfl
theorem q947 : (Jvm.Cond.methodLink "CreditBroker$Reader" (60 : Nat) ({ cls := "CreditBroker$Reader", name := "text", desc := "()Ljava/lang/String;" } : Jvm.MethodName)) ∈ lw_all := lw_g (lw_at lw_m4 131 rfl) rfl
theorem q948 : (Jvm.Cond.privateMethod ({ cls := "CreditBroker$Reader", name := "text", desc := "()Ljava/lang/String;" } : Jvm.MethodName)) ∈ lw_tbl := lw_at lw_m4 132 rfl
theorem q949 : (Jvm.Cond.instanceMethod ({ cls := "CreditBroker$Reader", name := "text", desc := "()Ljava/lang/String;" } : Jvm.MethodName)) ∈ lw_all := lw_g (lw_at lw_m4 133 rfl) rfl
theorem q950 : (Jvm.Cond.code ({ cls := "CreditBroker$Reader", name := "text", desc := "()Ljava/lang/String;" } : Jvm.MethodName) prog_16_method_5_code (3 : Nat) (Option.some (Jvm.ClassFile.FieldType.object "java/lang/String"))) ∈ lw_all := lw_g (lw_at lw_m4 134 rfl) rfl
theorem q951 : (Jvm.Cond.classLink "CreditBroker$Reader" (26 : Nat) "java/lang/StringBuilder") ∈ lw_all := lw_g (lw_at lw_m4 135 rfl) rfl
theorem q952 : (Jvm.Cond.methodLink "CreditBroker$Reader" (28 : Nat) ({ cls := "java/lang/StringBuilder", name := "<init>", desc := "()V" } : Jvm.MethodName)) ∈ lw_all := lw_g (lw_at lw_m4 136 rfl) rfl
theorem q953 : (Jvm.Cond.methodLink "CreditBroker$Reader" (37 : Nat) ({ cls := "java/lang/StringBuilder", name := "append", desc := "(C)Ljava/lang/StringBuilder;" } : Jvm.MethodName)) ∈ lw_all := lw_g (lw_at lw_m4 137 rfl) rfl
theorem q975 : (Jvm.Cond.methodLink "CreditBroker$Reader" (46 : Nat) ({ cls := "java/lang/StringBuilder", name := "toString", desc := "()Ljava/lang/String;" } : Jvm.MethodName)) ∈ lw_all := lw_g (lw_at lw_m4 159 rfl) rfl
theorem q976 : (Jvm.Cond.methodLink "CreditBroker$Reader" (63 : Nat) ({ cls := "CreditBroker$Pattern", name := "<init>", desc := "(Ljava/lang/String;)V" } : Jvm.MethodName)) ∈ lw_all := lw_g (lw_at lw_m4 160 rfl) rfl
theorem q992 : (Jvm.Cond.methodLink "CreditBroker$Reader" (66 : Nat) ({ cls := "CreditBroker$Reader", name := "part", desc := "(Z)Ljava/lang/String;" } : Jvm.MethodName)) ∈ lw_all := lw_g (lw_at lw_m4 176 rfl) rfl
theorem q993 : (Jvm.Cond.privateMethod ({ cls := "CreditBroker$Reader", name := "part", desc := "(Z)Ljava/lang/String;" } : Jvm.MethodName)) ∈ lw_tbl := lw_at lw_m4 177 rfl
theorem q994 : (Jvm.Cond.instanceMethod ({ cls := "CreditBroker$Reader", name := "part", desc := "(Z)Ljava/lang/String;" } : Jvm.MethodName)) ∈ lw_all := lw_g (lw_at lw_m4 178 rfl) rfl
theorem q995 : (Jvm.Cond.code ({ cls := "CreditBroker$Reader", name := "part", desc := "(Z)Ljava/lang/String;" } : Jvm.MethodName) prog_16_method_4_code (2 : Nat) (Option.some (Jvm.ClassFile.FieldType.object "java/lang/String"))) ∈ lw_all := lw_g (lw_at lw_m4 179 rfl) rfl
theorem q996 : (Jvm.Cond.methodLink "CreditBroker$Reader" (33 : Nat) ({ cls := "CreditBroker$Reader", name := "is", desc := "(II)Z" } : Jvm.MethodName)) ∈ lw_all := lw_g (lw_at lw_m4 180 rfl) rfl
theorem q997 : (Jvm.Cond.privateMethod ({ cls := "CreditBroker$Reader", name := "is", desc := "(II)Z" } : Jvm.MethodName)) ∈ lw_tbl := lw_at lw_m4 181 rfl
theorem q998 : (Jvm.Cond.instanceMethod ({ cls := "CreditBroker$Reader", name := "is", desc := "(II)Z" } : Jvm.MethodName)) ∈ lw_all := lw_g (lw_at lw_m4 182 rfl) rfl
theorem q999 : (Jvm.Cond.code ({ cls := "CreditBroker$Reader", name := "is", desc := "(II)Z" } : Jvm.MethodName) prog_16_method_2_code (3 : Nat) (Option.some Jvm.ClassFile.FieldType.boolean)) ∈ lw_all := lw_g (lw_at lw_m4 183 rfl) rfl
theorem q1000 : (Jvm.Cond.stringRef "CreditBroker$Reader" (50 : Nat) "") ∈ lw_tbl := lw_at lw_m4 184 rfl
theorem q1001 : (Jvm.Cond.methodLink "CreditBroker$Reader" (52 : Nat) ({ cls := "java/lang/StringBuilder", name := "append", desc := "(Ljava/lang/String;)Ljava/lang/StringBuilder;" } : Jvm.MethodName)) ∈ lw_all := lw_g (lw_at lw_m4 185 rfl) rfl
theorem q1002 : (Jvm.Cond.methodLink "CreditBroker$Reader" (55 : Nat) ({ cls := "CreditBroker$Reader", name := "word", desc := "()Ljava/lang/String;" } : Jvm.MethodName)) ∈ lw_all := lw_g (lw_at lw_m4 186 rfl) rfl
theorem q1003 : (Jvm.Cond.privateMethod ({ cls := "CreditBroker$Reader", name := "word", desc := "()Ljava/lang/String;" } : Jvm.MethodName)) ∈ lw_tbl := lw_at lw_m4 187 rfl
theorem q1004 : (Jvm.Cond.instanceMethod ({ cls := "CreditBroker$Reader", name := "word", desc := "()Ljava/lang/String;" } : Jvm.MethodName)) ∈ lw_all := lw_g (lw_at lw_m4 188 rfl) rfl
theorem q1005 : (Jvm.Cond.code ({ cls := "CreditBroker$Reader", name := "word", desc := "()Ljava/lang/String;" } : Jvm.MethodName) prog_16_method_3_code (2 : Nat) (Option.some (Jvm.ClassFile.FieldType.object "java/lang/String"))) ∈ lw_all := lw_g (lw_at lw_m4 189 rfl) rfl
theorem q1006 : (Jvm.Cond.methodLink "CreditBroker$Reader" (29 : Nat) ({ cls := "java/lang/StringBuilder", name := "length", desc := "()I" } : Jvm.MethodName)) ∈ lw_all := lw_g (lw_at lw_m4 190 rfl) rfl
theorem q1007 : (Jvm.Cond.classLink "CreditBroker$Reader" (41 : Nat) "CreditBroker$Fault") ∈ lw_all := lw_g (lw_at lw_m4 191 rfl) rfl
theorem q1016 : (Jvm.Cond.methodLink "CreditBroker$Reader" (43 : Nat) ({ cls := "CreditBroker$Fault", name := "<init>", desc := "(I)V" } : Jvm.MethodName)) ∈ lw_all := lw_g (lw_at lw_m4 200 rfl) rfl
theorem q1026 : (Jvm.Cond.methodLink "CreditBroker$Reader" (70 : Nat) ({ cls := "CreditBroker$Pattern", name := "adds", desc := "(Ljava/lang/String;)V" } : Jvm.MethodName)) ∈ lw_all := lw_g (lw_at lw_m4 210 rfl) rfl
theorem q1074 : (Jvm.Cond.selects "CreditBroker$Reader" ({ cls := "java/lang/Object", name := "getClass", desc := "()Ljava/lang/Class;" } : Jvm.MethodName) ({ cls := "java/lang/Object", name := "getClass", desc := "()Ljava/lang/Class;" } : Jvm.MethodName)) ∈ lw_all := lw_g (lw_at lw_m5 18 rfl) rfl
theorem q1113 : (Jvm.Cond.stringRef "CreditBroker$Reader" (73 : Nat) "#") ∈ lw_tbl := lw_at lw_m5 57 rfl
theorem q1114 : (Jvm.Cond.methodLink "CreditBroker$Reader" (75 : Nat) ({ cls := "java/lang/String", name := "equals", desc := "(Ljava/lang/Object;)Z" } : Jvm.MethodName)) ∈ lw_all := lw_g (lw_at lw_m5 58 rfl) rfl
theorem q1818 : (Jvm.Cond.selects "CreditBroker$Reader" ({ cls := "java/lang/Object", name := "equals", desc := "(Ljava/lang/Object;)Z" } : Jvm.MethodName) ({ cls := "java/lang/Object", name := "equals", desc := "(Ljava/lang/Object;)Z" } : Jvm.MethodName)) ∈ lw_all := lw_g (lw_at lw_m8 42 rfl) rfl
theorem q3326 : (Jvm.Cond.castable "CreditBroker$Reader" "java/lang/Object") ∈ lw_tbl := lw_at lw_m14 110 rfl
theorem in_X5 : ∀ w ∈ wsX50, w ∈ lw_all := lw_in wsX50 [936, 938] (by decide +kernel) (by decide +kernel)
/-! CreditBroker$Pattern -/
def RX6 : String := "CreditBroker$Pattern"
def TX6 : u_T := fun k => match k with
  | 0 => ("CreditBroker$Pattern", "text", "Ljava/lang/String;", true)
  | 1 => ("CreditBroker$Pattern", "parts", "Ljava/util/ArrayList;", true)
  | _ => ("CreditBroker$Pattern", "isOpen", "Z", false)
def tyX6 : Nat → FieldType := fun k => match k with
  | 0 => .object "java/lang/String"
  | 1 => .object "java/util/ArrayList"
  | _ => .boolean
abbrev wsX60 : List Cond := u_ws RX6 TX6 3
theorem nmX6 : ∀ a, a < 3 → ∀ b, b < 3 → a ≠ b → (TX6 a).2.1 ≠ (TX6 b).2.1 := by decide +kernel
theorem tyX6_ok : ∀ k, k < 3 → parseFieldDescriptor (TX6 k).2.2.1 = some (tyX6 k) := by decide +kernel
abbrev cX6_init : ByteArray := prog_14_method_1_code
def yX6_init : MethodName := ⟨RX6, "<init>", "(Ljava/lang/String;)V"⟩
def dkwX6_init_1 : List UInt8 := [181, 0, 20, 177]
abbrev dktX6_init_1 : List UInt8 := dkwX6_init_1 ++ []
def dkwX6_init_0 : List UInt8 := [42, 183, 0, 1, 42, 187, 0, 7, 89, 183, 0, 9, 181, 0, 10, 42, 3, 181, 0, 16, 42, 43]
abbrev dktX6_init_0 : List UInt8 := dkwX6_init_0 ++ dktX6_init_1
theorem dksX6_init_0 : cX6_init.data.toList.drop 0 = dktX6_init_0 := by decide +kernel
theorem dksX6_init_1 : cX6_init.data.toList.drop 22 = dktX6_init_1 := dk_seg dksX6_init_0 22 rfl rfl
theorem dX6_init_0 : decode cX6_init 0 = .ok (.aload_n 0, 1) := dk_42 (dk_at dksX6_init_0 0 rfl rfl)
theorem dX6_init_1 : decode cX6_init 1 = .ok (.invokespecial 1, 3) := dk_183 0 1 (dk_at dksX6_init_0 1 rfl rfl)
theorem dX6_init_4 : decode cX6_init 4 = .ok (.aload_n 0, 1) := dk_42 (dk_at dksX6_init_0 4 rfl rfl)
theorem dX6_init_5 : decode cX6_init 5 = .ok (.new 7, 3) := dk_187 0 7 (dk_at dksX6_init_0 5 rfl rfl)
theorem dX6_init_8 : decode cX6_init 8 = .ok (.dup, 1) := dk_89 (dk_at dksX6_init_0 8 rfl rfl)
theorem dX6_init_9 : decode cX6_init 9 = .ok (.invokespecial 9, 3) := dk_183 0 9 (dk_at dksX6_init_0 9 rfl rfl)
theorem dX6_init_12 : decode cX6_init 12 = .ok (.putfield 10, 3) := dk_181 0 10 (dk_at dksX6_init_0 12 rfl rfl)
theorem dX6_init_15 : decode cX6_init 15 = .ok (.aload_n 0, 1) := dk_42 (dk_at dksX6_init_0 15 rfl rfl)
theorem dX6_init_16 : decode cX6_init 16 = .ok (.iconst 0, 1) := dk_3 (dk_at dksX6_init_0 16 rfl rfl)
theorem dX6_init_17 : decode cX6_init 17 = .ok (.putfield 16, 3) := dk_181 0 16 (dk_at dksX6_init_0 17 rfl rfl)
theorem dX6_init_20 : decode cX6_init 20 = .ok (.aload_n 0, 1) := dk_42 (dk_at dksX6_init_0 20 rfl rfl)
theorem dX6_init_21 : decode cX6_init 21 = .ok (.aload_n 1, 1) := dk_43 (dk_at dksX6_init_0 21 rfl rfl)
theorem dX6_init_22 : decode cX6_init 22 = .ok (.putfield 20, 3) := dk_181 0 20 (dk_at dksX6_init_1 0 rfl rfl)
theorem dX6_init_25 : decode cX6_init 25 = .ok (.return_, 1) := dk_177 (dk_at dksX6_init_1 3 rfl rfl)
abbrev cX6_adds : ByteArray := prog_14_method_2_code
def yX6_adds : MethodName := ⟨RX6, "adds", "(Ljava/lang/String;)V"⟩
def dkwX6_adds_1 : List UInt8 := [182, 0, 32, 87, 177]
abbrev dktX6_adds_1 : List UInt8 := dkwX6_adds_1 ++ []
def dkwX6_adds_0 : List UInt8 := [43, 18, 24, 182, 0, 26, 153, 0, 11, 42, 4, 181, 0, 16, 167, 0, 12, 42, 180, 0, 10, 43]
abbrev dktX6_adds_0 : List UInt8 := dkwX6_adds_0 ++ dktX6_adds_1
theorem dksX6_adds_0 : cX6_adds.data.toList.drop 0 = dktX6_adds_0 := by decide +kernel
theorem dksX6_adds_1 : cX6_adds.data.toList.drop 22 = dktX6_adds_1 := dk_seg dksX6_adds_0 22 rfl rfl
theorem dX6_adds_0 : decode cX6_adds 0 = .ok (.aload_n 1, 1) := dk_43 (dk_at dksX6_adds_0 0 rfl rfl)
theorem dX6_adds_1 : decode cX6_adds 1 = .ok (.ldc 24, 2) := dk_18 24 (dk_at dksX6_adds_0 1 rfl rfl)
theorem dX6_adds_3 : decode cX6_adds 3 = .ok (.invokevirtual 26, 3) := dk_182 0 26 (dk_at dksX6_adds_0 3 rfl rfl)
theorem dX6_adds_6 : decode cX6_adds 6 = .ok (.ifCond .eq 11, 3) := dk_153 0 11 (dk_at dksX6_adds_0 6 rfl rfl)
theorem dX6_adds_9 : decode cX6_adds 9 = .ok (.aload_n 0, 1) := dk_42 (dk_at dksX6_adds_0 9 rfl rfl)
theorem dX6_adds_10 : decode cX6_adds 10 = .ok (.iconst 1, 1) := dk_4 (dk_at dksX6_adds_0 10 rfl rfl)
theorem dX6_adds_11 : decode cX6_adds 11 = .ok (.putfield 16, 3) := dk_181 0 16 (dk_at dksX6_adds_0 11 rfl rfl)
theorem dX6_adds_14 : decode cX6_adds 14 = .ok (.goto 12, 3) := dk_167 0 12 (dk_at dksX6_adds_0 14 rfl rfl)
theorem dX6_adds_17 : decode cX6_adds 17 = .ok (.aload_n 0, 1) := dk_42 (dk_at dksX6_adds_0 17 rfl rfl)
theorem dX6_adds_18 : decode cX6_adds 18 = .ok (.getfield 10, 3) := dk_180 0 10 (dk_at dksX6_adds_0 18 rfl rfl)
theorem dX6_adds_21 : decode cX6_adds 21 = .ok (.aload_n 1, 1) := dk_43 (dk_at dksX6_adds_0 21 rfl rfl)
theorem dX6_adds_22 : decode cX6_adds 22 = .ok (.invokevirtual 32, 3) := dk_182 0 32 (dk_at dksX6_adds_1 0 rfl rfl)
theorem dX6_adds_25 : decode cX6_adds 25 = .ok (.pop, 1) := dk_87 (dk_at dksX6_adds_1 3 rfl rfl)
theorem dX6_adds_26 : decode cX6_adds 26 = .ok (.return_, 1) := dk_177 (dk_at dksX6_adds_1 4 rfl rfl)
abbrev cX6_many : ByteArray := prog_14_method_4_code
def yX6_many : MethodName := ⟨RX6, "many", "()I"⟩
def dkwX6_many_0 : List UInt8 := [42, 180, 0, 10, 182, 0, 35, 172]
abbrev dktX6_many_0 : List UInt8 := dkwX6_many_0 ++ []
theorem dksX6_many_0 : cX6_many.data.toList.drop 0 = dktX6_many_0 := by decide +kernel
theorem dX6_many_0 : decode cX6_many 0 = .ok (.aload_n 0, 1) := dk_42 (dk_at dksX6_many_0 0 rfl rfl)
theorem dX6_many_1 : decode cX6_many 1 = .ok (.getfield 10, 3) := dk_180 0 10 (dk_at dksX6_many_0 1 rfl rfl)
theorem dX6_many_4 : decode cX6_many 4 = .ok (.invokevirtual 35, 3) := dk_182 0 35 (dk_at dksX6_many_0 4 rfl rfl)
theorem dX6_many_7 : decode cX6_many 7 = .ok (.ireturn, 1) := dk_172 (dk_at dksX6_many_0 7 rfl rfl)
abbrev cX6_covers : ByteArray := prog_14_method_9_code
def yX6_covers : MethodName := ⟨RX6, "covers", "(LCreditBroker$Pattern;)Z"⟩
def dkwX6_covers_1 : List UInt8 := [153, 0, 16, 42, 43, 7, 182, 0, 57, 153, 0, 7, 4, 167, 0, 4, 3, 172]
abbrev dktX6_covers_1 : List UInt8 := dkwX6_covers_1 ++ []
def dkwX6_covers_0 : List UInt8 := [42, 43, 4, 182, 0, 57, 153, 0, 34, 42, 43, 5, 182, 0, 57, 153, 0, 25, 42, 43, 6, 182, 0, 57]
abbrev dktX6_covers_0 : List UInt8 := dkwX6_covers_0 ++ dktX6_covers_1
theorem dksX6_covers_0 : cX6_covers.data.toList.drop 0 = dktX6_covers_0 := by decide +kernel
theorem dksX6_covers_1 : cX6_covers.data.toList.drop 24 = dktX6_covers_1 := dk_seg dksX6_covers_0 24 rfl rfl
theorem dX6_covers_0 : decode cX6_covers 0 = .ok (.aload_n 0, 1) := dk_42 (dk_at dksX6_covers_0 0 rfl rfl)
theorem dX6_covers_1 : decode cX6_covers 1 = .ok (.aload_n 1, 1) := dk_43 (dk_at dksX6_covers_0 1 rfl rfl)
theorem dX6_covers_2 : decode cX6_covers 2 = .ok (.iconst 1, 1) := dk_4 (dk_at dksX6_covers_0 2 rfl rfl)
theorem dX6_covers_3 : decode cX6_covers 3 = .ok (.invokevirtual 57, 3) := dk_182 0 57 (dk_at dksX6_covers_0 3 rfl rfl)
theorem dX6_covers_6 : decode cX6_covers 6 = .ok (.ifCond .eq 34, 3) := dk_153 0 34 (dk_at dksX6_covers_0 6 rfl rfl)
theorem dX6_covers_9 : decode cX6_covers 9 = .ok (.aload_n 0, 1) := dk_42 (dk_at dksX6_covers_0 9 rfl rfl)
theorem dX6_covers_10 : decode cX6_covers 10 = .ok (.aload_n 1, 1) := dk_43 (dk_at dksX6_covers_0 10 rfl rfl)
theorem dX6_covers_11 : decode cX6_covers 11 = .ok (.iconst 2, 1) := dk_5 (dk_at dksX6_covers_0 11 rfl rfl)
theorem dX6_covers_12 : decode cX6_covers 12 = .ok (.invokevirtual 57, 3) := dk_182 0 57 (dk_at dksX6_covers_0 12 rfl rfl)
theorem dX6_covers_15 : decode cX6_covers 15 = .ok (.ifCond .eq 25, 3) := dk_153 0 25 (dk_at dksX6_covers_0 15 rfl rfl)
theorem dX6_covers_18 : decode cX6_covers 18 = .ok (.aload_n 0, 1) := dk_42 (dk_at dksX6_covers_0 18 rfl rfl)
theorem dX6_covers_19 : decode cX6_covers 19 = .ok (.aload_n 1, 1) := dk_43 (dk_at dksX6_covers_0 19 rfl rfl)
theorem dX6_covers_20 : decode cX6_covers 20 = .ok (.iconst 3, 1) := dk_6 (dk_at dksX6_covers_0 20 rfl rfl)
theorem dX6_covers_21 : decode cX6_covers 21 = .ok (.invokevirtual 57, 3) := dk_182 0 57 (dk_at dksX6_covers_0 21 rfl rfl)
theorem dX6_covers_24 : decode cX6_covers 24 = .ok (.ifCond .eq 16, 3) := dk_153 0 16 (dk_at dksX6_covers_1 0 rfl rfl)
theorem dX6_covers_27 : decode cX6_covers 27 = .ok (.aload_n 0, 1) := dk_42 (dk_at dksX6_covers_1 3 rfl rfl)
theorem dX6_covers_28 : decode cX6_covers 28 = .ok (.aload_n 1, 1) := dk_43 (dk_at dksX6_covers_1 4 rfl rfl)
theorem dX6_covers_29 : decode cX6_covers 29 = .ok (.iconst 4, 1) := dk_7 (dk_at dksX6_covers_1 5 rfl rfl)
theorem dX6_covers_30 : decode cX6_covers 30 = .ok (.invokevirtual 57, 3) := dk_182 0 57 (dk_at dksX6_covers_1 6 rfl rfl)
theorem dX6_covers_33 : decode cX6_covers 33 = .ok (.ifCond .eq 7, 3) := dk_153 0 7 (dk_at dksX6_covers_1 9 rfl rfl)
theorem dX6_covers_36 : decode cX6_covers 36 = .ok (.iconst 1, 1) := dk_4 (dk_at dksX6_covers_1 12 rfl rfl)
theorem dX6_covers_37 : decode cX6_covers 37 = .ok (.goto 4, 3) := dk_167 0 4 (dk_at dksX6_covers_1 13 rfl rfl)
theorem dX6_covers_40 : decode cX6_covers 40 = .ok (.iconst 0, 1) := dk_3 (dk_at dksX6_covers_1 16 rfl rfl)
theorem dX6_covers_41 : decode cX6_covers 41 = .ok (.ireturn, 1) := dk_172 (dk_at dksX6_covers_1 17 rfl rfl)
abbrev cX6_covers_2 : ByteArray := prog_14_method_8_code
def yX6_covers_2 : MethodName := ⟨RX6, "covers", "(LCreditBroker$Pattern;I)Z"⟩
def dkwX6_covers_2_2 : List UInt8 := [182, 0, 45, 182, 0, 53, 126, 62, 132, 4, 1, 167, 255, 224, 29, 172]
abbrev dktX6_covers_2_2 : List UInt8 := dkwX6_covers_2_2 ++ []
def dkwX6_covers_2_1 : List UInt8 := [54, 4, 21, 4, 28, 162, 0, 32, 43, 28, 182, 0, 49, 153, 0, 24, 29, 42, 21, 4, 43, 21, 4]
abbrev dktX6_covers_2_1 : List UInt8 := dkwX6_covers_2_1 ++ dktX6_covers_2_2
def dkwX6_covers_2_0 : List UInt8 := [43, 28, 182, 0, 49, 153, 0, 11, 42, 28, 182, 0, 49, 153, 0, 7, 4, 167, 0, 4, 3, 62, 3]
abbrev dktX6_covers_2_0 : List UInt8 := dkwX6_covers_2_0 ++ dktX6_covers_2_1
theorem dksX6_covers_2_0 : cX6_covers_2.data.toList.drop 0 = dktX6_covers_2_0 := by decide +kernel
theorem dksX6_covers_2_1 : cX6_covers_2.data.toList.drop 23 = dktX6_covers_2_1 := dk_seg dksX6_covers_2_0 23 rfl rfl
theorem dksX6_covers_2_2 : cX6_covers_2.data.toList.drop 46 = dktX6_covers_2_2 := dk_seg dksX6_covers_2_1 23 rfl rfl
theorem dX6_covers_2_0 : decode cX6_covers_2 0 = .ok (.aload_n 1, 1) := dk_43 (dk_at dksX6_covers_2_0 0 rfl rfl)
theorem dX6_covers_2_1 : decode cX6_covers_2 1 = .ok (.iload_n 2, 1) := dk_28 (dk_at dksX6_covers_2_0 1 rfl rfl)
theorem dX6_covers_2_2 : decode cX6_covers_2 2 = .ok (.invokevirtual 49, 3) := dk_182 0 49 (dk_at dksX6_covers_2_0 2 rfl rfl)
theorem dX6_covers_2_5 : decode cX6_covers_2 5 = .ok (.ifCond .eq 11, 3) := dk_153 0 11 (dk_at dksX6_covers_2_0 5 rfl rfl)
theorem dX6_covers_2_8 : decode cX6_covers_2 8 = .ok (.aload_n 0, 1) := dk_42 (dk_at dksX6_covers_2_0 8 rfl rfl)
theorem dX6_covers_2_9 : decode cX6_covers_2 9 = .ok (.iload_n 2, 1) := dk_28 (dk_at dksX6_covers_2_0 9 rfl rfl)
theorem dX6_covers_2_10 : decode cX6_covers_2 10 = .ok (.invokevirtual 49, 3) := dk_182 0 49 (dk_at dksX6_covers_2_0 10 rfl rfl)
theorem dX6_covers_2_13 : decode cX6_covers_2 13 = .ok (.ifCond .eq 7, 3) := dk_153 0 7 (dk_at dksX6_covers_2_0 13 rfl rfl)
theorem dX6_covers_2_16 : decode cX6_covers_2 16 = .ok (.iconst 1, 1) := dk_4 (dk_at dksX6_covers_2_0 16 rfl rfl)
theorem dX6_covers_2_17 : decode cX6_covers_2 17 = .ok (.goto 4, 3) := dk_167 0 4 (dk_at dksX6_covers_2_0 17 rfl rfl)
theorem dX6_covers_2_20 : decode cX6_covers_2 20 = .ok (.iconst 0, 1) := dk_3 (dk_at dksX6_covers_2_0 20 rfl rfl)
theorem dX6_covers_2_21 : decode cX6_covers_2 21 = .ok (.istore_n 3, 1) := dk_62 (dk_at dksX6_covers_2_0 21 rfl rfl)
theorem dX6_covers_2_22 : decode cX6_covers_2 22 = .ok (.iconst 0, 1) := dk_3 (dk_at dksX6_covers_2_0 22 rfl rfl)
theorem dX6_covers_2_23 : decode cX6_covers_2 23 = .ok (.istore 4, 2) := dk_54 4 (dk_at dksX6_covers_2_1 0 rfl rfl)
theorem dX6_covers_2_25 : decode cX6_covers_2 25 = .ok (.iload 4, 2) := dk_21 4 (dk_at dksX6_covers_2_1 2 rfl rfl)
theorem dX6_covers_2_27 : decode cX6_covers_2 27 = .ok (.iload_n 2, 1) := dk_28 (dk_at dksX6_covers_2_1 4 rfl rfl)
theorem dX6_covers_2_28 : decode cX6_covers_2 28 = .ok (.if_icmp .ge 32, 3) := dk_162 0 32 (dk_at dksX6_covers_2_1 5 rfl rfl)
theorem dX6_covers_2_31 : decode cX6_covers_2 31 = .ok (.aload_n 1, 1) := dk_43 (dk_at dksX6_covers_2_1 8 rfl rfl)
theorem dX6_covers_2_32 : decode cX6_covers_2 32 = .ok (.iload_n 2, 1) := dk_28 (dk_at dksX6_covers_2_1 9 rfl rfl)
theorem dX6_covers_2_33 : decode cX6_covers_2 33 = .ok (.invokevirtual 49, 3) := dk_182 0 49 (dk_at dksX6_covers_2_1 10 rfl rfl)
theorem dX6_covers_2_36 : decode cX6_covers_2 36 = .ok (.ifCond .eq 24, 3) := dk_153 0 24 (dk_at dksX6_covers_2_1 13 rfl rfl)
theorem dX6_covers_2_39 : decode cX6_covers_2 39 = .ok (.iload_n 3, 1) := dk_29 (dk_at dksX6_covers_2_1 16 rfl rfl)
theorem dX6_covers_2_40 : decode cX6_covers_2 40 = .ok (.aload_n 0, 1) := dk_42 (dk_at dksX6_covers_2_1 17 rfl rfl)
theorem dX6_covers_2_41 : decode cX6_covers_2 41 = .ok (.iload 4, 2) := dk_21 4 (dk_at dksX6_covers_2_1 18 rfl rfl)
theorem dX6_covers_2_43 : decode cX6_covers_2 43 = .ok (.aload_n 1, 1) := dk_43 (dk_at dksX6_covers_2_1 20 rfl rfl)
theorem dX6_covers_2_44 : decode cX6_covers_2 44 = .ok (.iload 4, 2) := dk_21 4 (dk_at dksX6_covers_2_1 21 rfl rfl)
theorem dX6_covers_2_46 : decode cX6_covers_2 46 = .ok (.invokevirtual 45, 3) := dk_182 0 45 (dk_at dksX6_covers_2_2 0 rfl rfl)
theorem dX6_covers_2_49 : decode cX6_covers_2 49 = .ok (.invokevirtual 53, 3) := dk_182 0 53 (dk_at dksX6_covers_2_2 3 rfl rfl)
theorem dX6_covers_2_52 : decode cX6_covers_2 52 = .ok (.iand, 1) := dk_126 (dk_at dksX6_covers_2_2 6 rfl rfl)
theorem dX6_covers_2_53 : decode cX6_covers_2 53 = .ok (.istore_n 3, 1) := dk_62 (dk_at dksX6_covers_2_2 7 rfl rfl)
theorem dX6_covers_2_54 : decode cX6_covers_2 54 = .ok (.iinc 4 1, 3) := dk_132 4 1 (dk_at dksX6_covers_2_2 8 rfl rfl)
theorem dX6_covers_2_57 : decode cX6_covers_2 57 = .ok (.goto (-32), 3) := dk_167 255 224 (dk_at dksX6_covers_2_2 11 rfl rfl)
theorem dX6_covers_2_60 : decode cX6_covers_2 60 = .ok (.iload_n 3, 1) := dk_29 (dk_at dksX6_covers_2_2 14 rfl rfl)
theorem dX6_covers_2_61 : decode cX6_covers_2 61 = .ok (.ireturn, 1) := dk_172 (dk_at dksX6_covers_2_2 15 rfl rfl)
abbrev cX6_isOfLength : ByteArray := prog_14_method_5_code
def yX6_isOfLength : MethodName := ⟨RX6, "isOfLength", "(I)Z"⟩
def dkwX6_isOfLength_1 : List UInt8 := [167, 0, 19, 27, 42, 180, 0, 10, 182, 0, 35, 160, 0, 7, 4, 167, 0, 4, 3, 172]
abbrev dktX6_isOfLength_1 : List UInt8 := dkwX6_isOfLength_1 ++ []
def dkwX6_isOfLength_0 : List UInt8 := [42, 180, 0, 16, 153, 0, 22, 27, 42, 180, 0, 10, 182, 0, 35, 161, 0, 7, 4, 167, 0, 23, 3]
abbrev dktX6_isOfLength_0 : List UInt8 := dkwX6_isOfLength_0 ++ dktX6_isOfLength_1
theorem dksX6_isOfLength_0 : cX6_isOfLength.data.toList.drop 0 = dktX6_isOfLength_0 := by decide +kernel
theorem dksX6_isOfLength_1 : cX6_isOfLength.data.toList.drop 23 = dktX6_isOfLength_1 := dk_seg dksX6_isOfLength_0 23 rfl rfl
theorem dX6_isOfLength_0 : decode cX6_isOfLength 0 = .ok (.aload_n 0, 1) := dk_42 (dk_at dksX6_isOfLength_0 0 rfl rfl)
theorem dX6_isOfLength_1 : decode cX6_isOfLength 1 = .ok (.getfield 16, 3) := dk_180 0 16 (dk_at dksX6_isOfLength_0 1 rfl rfl)
theorem dX6_isOfLength_4 : decode cX6_isOfLength 4 = .ok (.ifCond .eq 22, 3) := dk_153 0 22 (dk_at dksX6_isOfLength_0 4 rfl rfl)
theorem dX6_isOfLength_7 : decode cX6_isOfLength 7 = .ok (.iload_n 1, 1) := dk_27 (dk_at dksX6_isOfLength_0 7 rfl rfl)
theorem dX6_isOfLength_8 : decode cX6_isOfLength 8 = .ok (.aload_n 0, 1) := dk_42 (dk_at dksX6_isOfLength_0 8 rfl rfl)
theorem dX6_isOfLength_9 : decode cX6_isOfLength 9 = .ok (.getfield 10, 3) := dk_180 0 10 (dk_at dksX6_isOfLength_0 9 rfl rfl)
theorem dX6_isOfLength_12 : decode cX6_isOfLength 12 = .ok (.invokevirtual 35, 3) := dk_182 0 35 (dk_at dksX6_isOfLength_0 12 rfl rfl)
theorem dX6_isOfLength_15 : decode cX6_isOfLength 15 = .ok (.if_icmp .lt 7, 3) := dk_161 0 7 (dk_at dksX6_isOfLength_0 15 rfl rfl)
theorem dX6_isOfLength_18 : decode cX6_isOfLength 18 = .ok (.iconst 1, 1) := dk_4 (dk_at dksX6_isOfLength_0 18 rfl rfl)
theorem dX6_isOfLength_19 : decode cX6_isOfLength 19 = .ok (.goto 23, 3) := dk_167 0 23 (dk_at dksX6_isOfLength_0 19 rfl rfl)
theorem dX6_isOfLength_22 : decode cX6_isOfLength 22 = .ok (.iconst 0, 1) := dk_3 (dk_at dksX6_isOfLength_0 22 rfl rfl)
theorem dX6_isOfLength_23 : decode cX6_isOfLength 23 = .ok (.goto 19, 3) := dk_167 0 19 (dk_at dksX6_isOfLength_1 0 rfl rfl)
theorem dX6_isOfLength_26 : decode cX6_isOfLength 26 = .ok (.iload_n 1, 1) := dk_27 (dk_at dksX6_isOfLength_1 3 rfl rfl)
theorem dX6_isOfLength_27 : decode cX6_isOfLength 27 = .ok (.aload_n 0, 1) := dk_42 (dk_at dksX6_isOfLength_1 4 rfl rfl)
theorem dX6_isOfLength_28 : decode cX6_isOfLength 28 = .ok (.getfield 10, 3) := dk_180 0 10 (dk_at dksX6_isOfLength_1 5 rfl rfl)
theorem dX6_isOfLength_31 : decode cX6_isOfLength 31 = .ok (.invokevirtual 35, 3) := dk_182 0 35 (dk_at dksX6_isOfLength_1 8 rfl rfl)
theorem dX6_isOfLength_34 : decode cX6_isOfLength 34 = .ok (.if_icmp .ne 7, 3) := dk_160 0 7 (dk_at dksX6_isOfLength_1 11 rfl rfl)
theorem dX6_isOfLength_37 : decode cX6_isOfLength 37 = .ok (.iconst 1, 1) := dk_4 (dk_at dksX6_isOfLength_1 14 rfl rfl)
theorem dX6_isOfLength_38 : decode cX6_isOfLength 38 = .ok (.goto 4, 3) := dk_167 0 4 (dk_at dksX6_isOfLength_1 15 rfl rfl)
theorem dX6_isOfLength_41 : decode cX6_isOfLength 41 = .ok (.iconst 0, 1) := dk_3 (dk_at dksX6_isOfLength_1 18 rfl rfl)
theorem dX6_isOfLength_42 : decode cX6_isOfLength 42 = .ok (.ireturn, 1) := dk_172 (dk_at dksX6_isOfLength_1 19 rfl rfl)
abbrev cX6_at : ByteArray := prog_14_method_6_code
def yX6_at : MethodName := ⟨RX6, "at", "(I)Ljava/lang/String;"⟩
def dkwX6_at_1 : List UInt8 := [167, 0, 5, 18, 43, 176]
abbrev dktX6_at_1 : List UInt8 := dkwX6_at_1 ++ []
def dkwX6_at_0 : List UInt8 := [27, 42, 180, 0, 10, 182, 0, 35, 162, 0, 17, 42, 180, 0, 10, 27, 182, 0, 39, 192, 0, 27]
abbrev dktX6_at_0 : List UInt8 := dkwX6_at_0 ++ dktX6_at_1
theorem dksX6_at_0 : cX6_at.data.toList.drop 0 = dktX6_at_0 := by decide +kernel
theorem dksX6_at_1 : cX6_at.data.toList.drop 22 = dktX6_at_1 := dk_seg dksX6_at_0 22 rfl rfl
theorem dX6_at_0 : decode cX6_at 0 = .ok (.iload_n 1, 1) := dk_27 (dk_at dksX6_at_0 0 rfl rfl)
theorem dX6_at_1 : decode cX6_at 1 = .ok (.aload_n 0, 1) := dk_42 (dk_at dksX6_at_0 1 rfl rfl)
theorem dX6_at_2 : decode cX6_at 2 = .ok (.getfield 10, 3) := dk_180 0 10 (dk_at dksX6_at_0 2 rfl rfl)
theorem dX6_at_5 : decode cX6_at 5 = .ok (.invokevirtual 35, 3) := dk_182 0 35 (dk_at dksX6_at_0 5 rfl rfl)
theorem dX6_at_8 : decode cX6_at 8 = .ok (.if_icmp .ge 17, 3) := dk_162 0 17 (dk_at dksX6_at_0 8 rfl rfl)
theorem dX6_at_11 : decode cX6_at 11 = .ok (.aload_n 0, 1) := dk_42 (dk_at dksX6_at_0 11 rfl rfl)
theorem dX6_at_12 : decode cX6_at 12 = .ok (.getfield 10, 3) := dk_180 0 10 (dk_at dksX6_at_0 12 rfl rfl)
theorem dX6_at_15 : decode cX6_at 15 = .ok (.iload_n 1, 1) := dk_27 (dk_at dksX6_at_0 15 rfl rfl)
theorem dX6_at_16 : decode cX6_at 16 = .ok (.invokevirtual 39, 3) := dk_182 0 39 (dk_at dksX6_at_0 16 rfl rfl)
theorem dX6_at_19 : decode cX6_at 19 = .ok (.checkcast 27, 3) := dk_192 0 27 (dk_at dksX6_at_0 19 rfl rfl)
theorem dX6_at_22 : decode cX6_at 22 = .ok (.goto 5, 3) := dk_167 0 5 (dk_at dksX6_at_1 0 rfl rfl)
theorem dX6_at_25 : decode cX6_at 25 = .ok (.ldc 43, 2) := dk_18 43 (dk_at dksX6_at_1 3 rfl rfl)
theorem dX6_at_27 : decode cX6_at 27 = .ok (.areturn, 1) := dk_176 (dk_at dksX6_at_1 5 rfl rfl)
abbrev cX6_takes : ByteArray := prog_14_method_7_code
def yX6_takes : MethodName := ⟨RX6, "takes", "(ILjava/lang/String;)Z"⟩
def dkwX6_takes_1 : List UInt8 := [153, 0, 7, 4, 167, 0, 4, 3, 172]
abbrev dktX6_takes_1 : List UInt8 := dkwX6_takes_1 ++ []
def dkwX6_takes_0 : List UInt8 := [42, 27, 182, 0, 45, 18, 43, 182, 0, 26, 154, 0, 15, 42, 27, 182, 0, 45, 44, 182, 0, 26]
abbrev dktX6_takes_0 : List UInt8 := dkwX6_takes_0 ++ dktX6_takes_1
theorem dksX6_takes_0 : cX6_takes.data.toList.drop 0 = dktX6_takes_0 := by decide +kernel
theorem dksX6_takes_1 : cX6_takes.data.toList.drop 22 = dktX6_takes_1 := dk_seg dksX6_takes_0 22 rfl rfl
theorem dX6_takes_0 : decode cX6_takes 0 = .ok (.aload_n 0, 1) := dk_42 (dk_at dksX6_takes_0 0 rfl rfl)
theorem dX6_takes_1 : decode cX6_takes 1 = .ok (.iload_n 1, 1) := dk_27 (dk_at dksX6_takes_0 1 rfl rfl)
theorem dX6_takes_2 : decode cX6_takes 2 = .ok (.invokevirtual 45, 3) := dk_182 0 45 (dk_at dksX6_takes_0 2 rfl rfl)
theorem dX6_takes_5 : decode cX6_takes 5 = .ok (.ldc 43, 2) := dk_18 43 (dk_at dksX6_takes_0 5 rfl rfl)
theorem dX6_takes_7 : decode cX6_takes 7 = .ok (.invokevirtual 26, 3) := dk_182 0 26 (dk_at dksX6_takes_0 7 rfl rfl)
theorem dX6_takes_10 : decode cX6_takes 10 = .ok (.ifCond .ne 15, 3) := dk_154 0 15 (dk_at dksX6_takes_0 10 rfl rfl)
theorem dX6_takes_13 : decode cX6_takes 13 = .ok (.aload_n 0, 1) := dk_42 (dk_at dksX6_takes_0 13 rfl rfl)
theorem dX6_takes_14 : decode cX6_takes 14 = .ok (.iload_n 1, 1) := dk_27 (dk_at dksX6_takes_0 14 rfl rfl)
theorem dX6_takes_15 : decode cX6_takes 15 = .ok (.invokevirtual 45, 3) := dk_182 0 45 (dk_at dksX6_takes_0 15 rfl rfl)
theorem dX6_takes_18 : decode cX6_takes 18 = .ok (.aload_n 2, 1) := dk_44 (dk_at dksX6_takes_0 18 rfl rfl)
theorem dX6_takes_19 : decode cX6_takes 19 = .ok (.invokevirtual 26, 3) := dk_182 0 26 (dk_at dksX6_takes_0 19 rfl rfl)
theorem dX6_takes_22 : decode cX6_takes 22 = .ok (.ifCond .eq 7, 3) := dk_153 0 7 (dk_at dksX6_takes_1 0 rfl rfl)
theorem dX6_takes_25 : decode cX6_takes 25 = .ok (.iconst 1, 1) := dk_4 (dk_at dksX6_takes_1 3 rfl rfl)
theorem dX6_takes_26 : decode cX6_takes 26 = .ok (.goto 4, 3) := dk_167 0 4 (dk_at dksX6_takes_1 4 rfl rfl)
theorem dX6_takes_29 : decode cX6_takes 29 = .ok (.iconst 0, 1) := dk_3 (dk_at dksX6_takes_1 7 rfl rfl)
theorem dX6_takes_30 : decode cX6_takes 30 = .ok (.ireturn, 1) := dk_172 (dk_at dksX6_takes_1 8 rfl rfl)
abbrev cX6_text : ByteArray := prog_14_method_3_code
def yX6_text : MethodName := ⟨RX6, "text", "()Ljava/lang/String;"⟩
theorem dX6_text_0 : decode cX6_text 0 = .ok (.aload_n 0, 1) := by decide +kernel
theorem dX6_text_1 : decode cX6_text 1 = .ok (.getfield 20, 3) := by decide +kernel
theorem dX6_text_4 : decode cX6_text 4 = .ok (.areturn, 1) := by decide +kernel
theorem q129 : (Jvm.Cond.initialized "CreditBroker$Pattern") ∈ lw_all := lw_g (lw_at lw_m1 33 rfl) rfl
theorem q946 : (Jvm.Cond.instantiable "CreditBroker$Pattern" (3 : Nat)) ∈ lw_all := lw_g (lw_at lw_m4 130 rfl) rfl
theorem q977 : (Jvm.Cond.instanceMethod ({ cls := "CreditBroker$Pattern", name := "<init>", desc := "(Ljava/lang/String;)V" } : Jvm.MethodName)) ∈ lw_all := lw_g (lw_at lw_m4 161 rfl) rfl
theorem q978 : (Jvm.Cond.code ({ cls := "CreditBroker$Pattern", name := "<init>", desc := "(Ljava/lang/String;)V" } : Jvm.MethodName) prog_14_method_1_code (2 : Nat) (Option.none : Option Jvm.ClassFile.FieldType)) ∈ lw_all := lw_g (lw_at lw_m4 162 rfl) rfl
theorem q979 : (Jvm.Cond.methodLink "CreditBroker$Pattern" (1 : Nat) ({ cls := "java/lang/Object", name := "<init>", desc := "()V" } : Jvm.MethodName)) ∈ lw_all := lw_g (lw_at lw_m4 163 rfl) rfl
theorem q980 : (Jvm.Cond.classLink "CreditBroker$Pattern" (7 : Nat) "java/util/ArrayList") ∈ lw_all := lw_g (lw_at lw_m4 164 rfl) rfl
theorem q981 : (Jvm.Cond.methodLink "CreditBroker$Pattern" (9 : Nat) ({ cls := "java/util/ArrayList", name := "<init>", desc := "()V" } : Jvm.MethodName)) ∈ lw_all := lw_g (lw_at lw_m4 165 rfl) rfl
theorem q982 : (Jvm.Cond.fieldLink "CreditBroker$Pattern" (20 : Nat) "CreditBroker$Pattern" "text" "Ljava/lang/String;") ∈ lw_all := lw_g (lw_at lw_m4 166 rfl) rfl
theorem q983 : (Jvm.Cond.fieldLink "CreditBroker$Pattern" (10 : Nat) "CreditBroker$Pattern" "parts" "Ljava/util/ArrayList;") ∈ lw_all := lw_g (lw_at lw_m4 167 rfl) rfl
theorem q984 : (Jvm.Cond.fieldLink "CreditBroker$Pattern" (16 : Nat) "CreditBroker$Pattern" "isOpen" "Z") ∈ lw_all := lw_g (lw_at lw_m4 168 rfl) rfl
theorem q985 : (Jvm.Cond.laysFinal "CreditBroker$Pattern" "CreditBroker$Pattern" "text" "Ljava/lang/String;") ∈ lw_all := lw_g (lw_at lw_m4 169 rfl) rfl
theorem q986 : (Jvm.Cond.soleField "CreditBroker$Pattern" "text") ∈ lw_all := lw_g (lw_at lw_m4 170 rfl) rfl
theorem q987 : (Jvm.Cond.laysFinal "CreditBroker$Pattern" "CreditBroker$Pattern" "parts" "Ljava/util/ArrayList;") ∈ lw_all := lw_g (lw_at lw_m4 171 rfl) rfl
theorem q988 : (Jvm.Cond.soleField "CreditBroker$Pattern" "parts") ∈ lw_all := lw_g (lw_at lw_m4 172 rfl) rfl
theorem q989 : (Jvm.Cond.lays "CreditBroker$Pattern" "CreditBroker$Pattern" "isOpen" "Z") ∈ lw_all := lw_g (lw_at lw_m4 173 rfl) rfl
theorem q990 : (Jvm.Cond.soleField "CreditBroker$Pattern" "isOpen") ∈ lw_all := lw_g (lw_at lw_m4 174 rfl) rfl
theorem q991 : (Jvm.Cond.superclass "CreditBroker$Pattern" "java/lang/Object") ∈ lw_all := lw_g (lw_at lw_m4 175 rfl) rfl
theorem q1027 : (Jvm.Cond.instanceMethod ({ cls := "CreditBroker$Pattern", name := "adds", desc := "(Ljava/lang/String;)V" } : Jvm.MethodName)) ∈ lw_all := lw_g (lw_at lw_m4 211 rfl) rfl
theorem q1028 : (Jvm.Cond.selects "CreditBroker$Pattern" ({ cls := "CreditBroker$Pattern", name := "adds", desc := "(Ljava/lang/String;)V" } : Jvm.MethodName) ({ cls := "CreditBroker$Pattern", name := "adds", desc := "(Ljava/lang/String;)V" } : Jvm.MethodName)) ∈ lw_all := lw_g (lw_at lw_m4 212 rfl) rfl
theorem q1029 : (Jvm.Cond.code ({ cls := "CreditBroker$Pattern", name := "adds", desc := "(Ljava/lang/String;)V" } : Jvm.MethodName) prog_14_method_2_code (2 : Nat) (Option.none : Option Jvm.ClassFile.FieldType)) ∈ lw_all := lw_g (lw_at lw_m4 213 rfl) rfl
theorem q1030 : (Jvm.Cond.stringRef "CreditBroker$Pattern" (24 : Nat) "#") ∈ lw_tbl := lw_at lw_m4 214 rfl
theorem q1031 : (Jvm.Cond.methodLink "CreditBroker$Pattern" (26 : Nat) ({ cls := "java/lang/String", name := "equals", desc := "(Ljava/lang/Object;)Z" } : Jvm.MethodName)) ∈ lw_all := lw_g (lw_at lw_m4 215 rfl) rfl
theorem q1039 : (Jvm.Cond.methodLink "CreditBroker$Pattern" (32 : Nat) ({ cls := "java/util/ArrayList", name := "add", desc := "(Ljava/lang/Object;)Z" } : Jvm.MethodName)) ∈ lw_all := lw_g (lw_at lw_m4 223 rfl) rfl
theorem q1072 : (Jvm.Cond.selects "CreditBroker$Pattern" ({ cls := "java/lang/Object", name := "getClass", desc := "()Ljava/lang/Class;" } : Jvm.MethodName) ({ cls := "java/lang/Object", name := "getClass", desc := "()Ljava/lang/Class;" } : Jvm.MethodName)) ∈ lw_all := lw_g (lw_at lw_m5 16 rfl) rfl
theorem q1116 : (Jvm.Cond.instanceMethod ({ cls := "CreditBroker$Pattern", name := "many", desc := "()I" } : Jvm.MethodName)) ∈ lw_all := lw_g (lw_at lw_m5 60 rfl) rfl
theorem q1117 : (Jvm.Cond.selects "CreditBroker$Pattern" ({ cls := "CreditBroker$Pattern", name := "many", desc := "()I" } : Jvm.MethodName) ({ cls := "CreditBroker$Pattern", name := "many", desc := "()I" } : Jvm.MethodName)) ∈ lw_all := lw_g (lw_at lw_m5 61 rfl) rfl
theorem q1118 : (Jvm.Cond.code ({ cls := "CreditBroker$Pattern", name := "many", desc := "()I" } : Jvm.MethodName) prog_14_method_4_code (1 : Nat) (Option.some Jvm.ClassFile.FieldType.int)) ∈ lw_all := lw_g (lw_at lw_m5 62 rfl) rfl
theorem q1119 : (Jvm.Cond.methodLink "CreditBroker$Pattern" (35 : Nat) ({ cls := "java/util/ArrayList", name := "size", desc := "()I" } : Jvm.MethodName)) ∈ lw_all := lw_g (lw_at lw_m5 63 rfl) rfl
theorem q1579 : (Jvm.Cond.instanceMethod ({ cls := "CreditBroker$Pattern", name := "covers", desc := "(LCreditBroker$Pattern;)Z" } : Jvm.MethodName)) ∈ lw_all := lw_g (lw_at lw_m7 43 rfl) rfl
theorem q1580 : (Jvm.Cond.selects "CreditBroker$Pattern" ({ cls := "CreditBroker$Pattern", name := "covers", desc := "(LCreditBroker$Pattern;)Z" } : Jvm.MethodName) ({ cls := "CreditBroker$Pattern", name := "covers", desc := "(LCreditBroker$Pattern;)Z" } : Jvm.MethodName)) ∈ lw_all := lw_g (lw_at lw_m7 44 rfl) rfl
theorem q1581 : (Jvm.Cond.code ({ cls := "CreditBroker$Pattern", name := "covers", desc := "(LCreditBroker$Pattern;)Z" } : Jvm.MethodName) prog_14_method_9_code (2 : Nat) (Option.some Jvm.ClassFile.FieldType.boolean)) ∈ lw_all := lw_g (lw_at lw_m7 45 rfl) rfl
theorem q1582 : (Jvm.Cond.methodLink "CreditBroker$Pattern" (57 : Nat) ({ cls := "CreditBroker$Pattern", name := "covers", desc := "(LCreditBroker$Pattern;I)Z" } : Jvm.MethodName)) ∈ lw_all := lw_g (lw_at lw_m7 46 rfl) rfl
theorem q1583 : (Jvm.Cond.privateMethod ({ cls := "CreditBroker$Pattern", name := "covers", desc := "(LCreditBroker$Pattern;I)Z" } : Jvm.MethodName)) ∈ lw_tbl := lw_at lw_m7 47 rfl
theorem q1584 : (Jvm.Cond.instanceMethod ({ cls := "CreditBroker$Pattern", name := "covers", desc := "(LCreditBroker$Pattern;I)Z" } : Jvm.MethodName)) ∈ lw_all := lw_g (lw_at lw_m7 48 rfl) rfl
theorem q1585 : (Jvm.Cond.code ({ cls := "CreditBroker$Pattern", name := "covers", desc := "(LCreditBroker$Pattern;I)Z" } : Jvm.MethodName) prog_14_method_8_code (5 : Nat) (Option.some Jvm.ClassFile.FieldType.boolean)) ∈ lw_all := lw_g (lw_at lw_m7 49 rfl) rfl
theorem q1586 : (Jvm.Cond.methodLink "CreditBroker$Pattern" (49 : Nat) ({ cls := "CreditBroker$Pattern", name := "isOfLength", desc := "(I)Z" } : Jvm.MethodName)) ∈ lw_all := lw_g (lw_at lw_m7 50 rfl) rfl
theorem q1587 : (Jvm.Cond.privateMethod ({ cls := "CreditBroker$Pattern", name := "isOfLength", desc := "(I)Z" } : Jvm.MethodName)) ∈ lw_tbl := lw_at lw_m7 51 rfl
theorem q1588 : (Jvm.Cond.instanceMethod ({ cls := "CreditBroker$Pattern", name := "isOfLength", desc := "(I)Z" } : Jvm.MethodName)) ∈ lw_all := lw_g (lw_at lw_m7 52 rfl) rfl
theorem q1589 : (Jvm.Cond.code ({ cls := "CreditBroker$Pattern", name := "isOfLength", desc := "(I)Z" } : Jvm.MethodName) prog_14_method_5_code (2 : Nat) (Option.some Jvm.ClassFile.FieldType.boolean)) ∈ lw_all := lw_g (lw_at lw_m7 53 rfl) rfl
theorem q1590 : (Jvm.Cond.methodLink "CreditBroker$Pattern" (45 : Nat) ({ cls := "CreditBroker$Pattern", name := "at", desc := "(I)Ljava/lang/String;" } : Jvm.MethodName)) ∈ lw_all := lw_g (lw_at lw_m7 54 rfl) rfl
theorem q1591 : (Jvm.Cond.privateMethod ({ cls := "CreditBroker$Pattern", name := "at", desc := "(I)Ljava/lang/String;" } : Jvm.MethodName)) ∈ lw_tbl := lw_at lw_m7 55 rfl
theorem q1592 : (Jvm.Cond.instanceMethod ({ cls := "CreditBroker$Pattern", name := "at", desc := "(I)Ljava/lang/String;" } : Jvm.MethodName)) ∈ lw_all := lw_g (lw_at lw_m7 56 rfl) rfl
theorem q1593 : (Jvm.Cond.code ({ cls := "CreditBroker$Pattern", name := "at", desc := "(I)Ljava/lang/String;" } : Jvm.MethodName) prog_14_method_6_code (2 : Nat) (Option.some (Jvm.ClassFile.FieldType.object "java/lang/String"))) ∈ lw_all := lw_g (lw_at lw_m7 57 rfl) rfl
theorem q1594 : (Jvm.Cond.methodLink "CreditBroker$Pattern" (39 : Nat) ({ cls := "java/util/ArrayList", name := "get", desc := "(I)Ljava/lang/Object;" } : Jvm.MethodName)) ∈ lw_all := lw_g (lw_at lw_m7 58 rfl) rfl
theorem q1595 : (Jvm.Cond.classLink "CreditBroker$Pattern" (27 : Nat) "java/lang/String") ∈ lw_all := lw_g (lw_at lw_m7 59 rfl) rfl
theorem q1596 : (Jvm.Cond.stringRef "CreditBroker$Pattern" (43 : Nat) "*") ∈ lw_tbl := lw_at lw_m7 60 rfl
theorem q1597 : (Jvm.Cond.methodLink "CreditBroker$Pattern" (53 : Nat) ({ cls := "CreditBroker$Pattern", name := "takes", desc := "(ILjava/lang/String;)Z" } : Jvm.MethodName)) ∈ lw_all := lw_g (lw_at lw_m7 61 rfl) rfl
theorem q1598 : (Jvm.Cond.privateMethod ({ cls := "CreditBroker$Pattern", name := "takes", desc := "(ILjava/lang/String;)Z" } : Jvm.MethodName)) ∈ lw_tbl := lw_at lw_m7 62 rfl
theorem q1599 : (Jvm.Cond.instanceMethod ({ cls := "CreditBroker$Pattern", name := "takes", desc := "(ILjava/lang/String;)Z" } : Jvm.MethodName)) ∈ lw_all := lw_g (lw_at lw_m7 63 rfl) rfl
theorem q1600 : (Jvm.Cond.code ({ cls := "CreditBroker$Pattern", name := "takes", desc := "(ILjava/lang/String;)Z" } : Jvm.MethodName) prog_14_method_7_code (3 : Nat) (Option.some Jvm.ClassFile.FieldType.boolean)) ∈ lw_all := lw_g (lw_at lw_m7 64 rfl) rfl
theorem q1816 : (Jvm.Cond.selects "CreditBroker$Pattern" ({ cls := "java/lang/Object", name := "equals", desc := "(Ljava/lang/Object;)Z" } : Jvm.MethodName) ({ cls := "java/lang/Object", name := "equals", desc := "(Ljava/lang/Object;)Z" } : Jvm.MethodName)) ∈ lw_all := lw_g (lw_at lw_m8 40 rfl) rfl
theorem q2539 : (Jvm.Cond.instanceMethod ({ cls := "CreditBroker$Pattern", name := "text", desc := "()Ljava/lang/String;" } : Jvm.MethodName)) ∈ lw_all := lw_g (lw_at lw_m11 43 rfl) rfl
theorem q2540 : (Jvm.Cond.selects "CreditBroker$Pattern" ({ cls := "CreditBroker$Pattern", name := "text", desc := "()Ljava/lang/String;" } : Jvm.MethodName) ({ cls := "CreditBroker$Pattern", name := "text", desc := "()Ljava/lang/String;" } : Jvm.MethodName)) ∈ lw_all := lw_g (lw_at lw_m11 44 rfl) rfl
theorem q2541 : (Jvm.Cond.code ({ cls := "CreditBroker$Pattern", name := "text", desc := "()Ljava/lang/String;" } : Jvm.MethodName) prog_14_method_3_code (1 : Nat) (Option.some (Jvm.ClassFile.FieldType.object "java/lang/String"))) ∈ lw_all := lw_g (lw_at lw_m11 45 rfl) rfl
theorem q3327 : (Jvm.Cond.castable "CreditBroker$Pattern" "java/lang/Object") ∈ lw_tbl := lw_at lw_m14 111 rfl
theorem in_X6 : ∀ w ∈ wsX60, w ∈ lw_all := lw_in wsX60 [985, 987, 989] (by decide +kernel) (by decide +kernel)
/-! CreditBroker$Fault -/
def RX7 : String := "CreditBroker$Fault"
def TX7 : u_T := fun k => match k with
  | 0 => ("java/lang/Throwable", "cause", "Ljava/lang/Throwable;", false)
  | 1 => ("java/lang/Throwable", "stackTrace", "[Ljava/lang/StackTraceElement;", false)
  | 2 => ("java/lang/Throwable", "suppressedExceptions", "Ljava/util/List;", false)
  | 3 => ("java/lang/Throwable", "detailMessage", "Ljava/lang/String;", false)
  | 4 => ("java/lang/Throwable", "backtrace", "Ljava/lang/Object;", false)
  | 5 => ("java/lang/Throwable", "depth", "I", false)
  | _ => ("CreditBroker$Fault", "place", "I", true)
def tyX7 : Nat → FieldType := fun k => match k with
  | 0 => .object "java/lang/Throwable"
  | 1 => .array (.object "java/lang/StackTraceElement")
  | 2 => .object "java/util/List"
  | 3 => .object "java/lang/String"
  | 4 => .object "java/lang/Object"
  | 5 => .int
  | _ => .int
abbrev wsX70 : List Cond := u_ws RX7 TX7 7
theorem nmX7 : ∀ a, a < 7 → ∀ b, b < 7 → a ≠ b → (TX7 a).2.1 ≠ (TX7 b).2.1 := by decide +kernel
theorem tyX7_ok : ∀ k, k < 7 → parseFieldDescriptor (TX7 k).2.2.1 = some (tyX7 k) := by decide +kernel
abbrev cX7_init : ByteArray := prog_7_method_1_code
def yX7_init : MethodName := ⟨RX7, "<init>", "(I)V"⟩
def dkwX7_init_0 : List UInt8 := [42, 1, 1, 3, 3, 183, 0, 1, 42, 27, 181, 0, 7, 177]
abbrev dktX7_init_0 : List UInt8 := dkwX7_init_0 ++ []
theorem dksX7_init_0 : cX7_init.data.toList.drop 0 = dktX7_init_0 := by decide +kernel
theorem dX7_init_0 : decode cX7_init 0 = .ok (.aload_n 0, 1) := dk_42 (dk_at dksX7_init_0 0 rfl rfl)
theorem dX7_init_1 : decode cX7_init 1 = .ok (.aconst_null, 1) := dk_1 (dk_at dksX7_init_0 1 rfl rfl)
theorem dX7_init_2 : decode cX7_init 2 = .ok (.aconst_null, 1) := dk_1 (dk_at dksX7_init_0 2 rfl rfl)
theorem dX7_init_3 : decode cX7_init 3 = .ok (.iconst 0, 1) := dk_3 (dk_at dksX7_init_0 3 rfl rfl)
theorem dX7_init_4 : decode cX7_init 4 = .ok (.iconst 0, 1) := dk_3 (dk_at dksX7_init_0 4 rfl rfl)
theorem dX7_init_5 : decode cX7_init 5 = .ok (.invokespecial 1, 3) := dk_183 0 1 (dk_at dksX7_init_0 5 rfl rfl)
theorem dX7_init_8 : decode cX7_init 8 = .ok (.aload_n 0, 1) := dk_42 (dk_at dksX7_init_0 8 rfl rfl)
theorem dX7_init_9 : decode cX7_init 9 = .ok (.iload_n 1, 1) := dk_27 (dk_at dksX7_init_0 9 rfl rfl)
theorem dX7_init_10 : decode cX7_init 10 = .ok (.putfield 7, 3) := dk_181 0 7 (dk_at dksX7_init_0 10 rfl rfl)
theorem dX7_init_13 : decode cX7_init 13 = .ok (.return_, 1) := dk_177 (dk_at dksX7_init_0 13 rfl rfl)
theorem q130 : (Jvm.Cond.initialized "CreditBroker$Fault") ∈ lw_all := lw_g (lw_at lw_m1 34 rfl) rfl
theorem q321 : (Jvm.Cond.selects "CreditBroker$Fault" ({ cls := "java/lang/Throwable", name := "fillInStackTrace", desc := "()Ljava/lang/Throwable;" } : Jvm.MethodName) ({ cls := "java/lang/Throwable", name := "fillInStackTrace", desc := "()Ljava/lang/Throwable;" } : Jvm.MethodName)) ∈ lw_all := lw_g (lw_at lw_m1 225 rfl) rfl
theorem q1008 : (Jvm.Cond.instantiable "CreditBroker$Fault" (7 : Nat)) ∈ lw_all := lw_g (lw_at lw_m4 192 rfl) rfl
theorem q1009 : (Jvm.Cond.castable "CreditBroker$Fault" "CreditBroker$Fault") ∈ lw_tbl := lw_at lw_m4 193 rfl
theorem q1010 : (Jvm.Cond.selects "CreditBroker$Fault" ({ cls := "java/lang/Throwable", name := "fillInStackTrace", desc := "(I)Ljava/lang/Throwable;" } : Jvm.MethodName) ({ cls := "java/lang/Throwable", name := "fillInStackTrace", desc := "(I)Ljava/lang/Throwable;" } : Jvm.MethodName)) ∈ lw_all := lw_g (lw_at lw_m4 194 rfl) rfl
theorem q1011 : (Jvm.Cond.lays "CreditBroker$Fault" "java/lang/Throwable" "cause" "Ljava/lang/Throwable;") ∈ lw_all := lw_g (lw_at lw_m4 195 rfl) rfl
theorem q1012 : (Jvm.Cond.lays "CreditBroker$Fault" "java/lang/Throwable" "stackTrace" "[Ljava/lang/StackTraceElement;") ∈ lw_all := lw_g (lw_at lw_m4 196 rfl) rfl
theorem q1013 : (Jvm.Cond.lays "CreditBroker$Fault" "java/lang/Throwable" "suppressedExceptions" "Ljava/util/List;") ∈ lw_all := lw_g (lw_at lw_m4 197 rfl) rfl
theorem q1014 : (Jvm.Cond.lays "CreditBroker$Fault" "java/lang/Throwable" "detailMessage" "Ljava/lang/String;") ∈ lw_all := lw_g (lw_at lw_m4 198 rfl) rfl
theorem q1015 : (Jvm.Cond.lays "CreditBroker$Fault" "java/lang/Throwable" "backtrace" "Ljava/lang/Object;") ∈ lw_all := lw_g (lw_at lw_m4 199 rfl) rfl
theorem q1017 : (Jvm.Cond.instanceMethod ({ cls := "CreditBroker$Fault", name := "<init>", desc := "(I)V" } : Jvm.MethodName)) ∈ lw_all := lw_g (lw_at lw_m4 201 rfl) rfl
theorem q1018 : (Jvm.Cond.code ({ cls := "CreditBroker$Fault", name := "<init>", desc := "(I)V" } : Jvm.MethodName) prog_7_method_1_code (2 : Nat) (Option.none : Option Jvm.ClassFile.FieldType)) ∈ lw_all := lw_g (lw_at lw_m4 202 rfl) rfl
theorem q1019 : (Jvm.Cond.methodLink "CreditBroker$Fault" (1 : Nat) ({ cls := "java/lang/Exception", name := "<init>", desc := "(Ljava/lang/String;Ljava/lang/Throwable;ZZ)V" } : Jvm.MethodName)) ∈ lw_all := lw_g (lw_at lw_m4 203 rfl) rfl
theorem q1020 : (Jvm.Cond.fieldLink "CreditBroker$Fault" (7 : Nat) "CreditBroker$Fault" "place" "I") ∈ lw_all := lw_g (lw_at lw_m4 204 rfl) rfl
theorem q1022 : (Jvm.Cond.laysFinal "CreditBroker$Fault" "CreditBroker$Fault" "place" "I") ∈ lw_all := lw_g (lw_at lw_m4 206 rfl) rfl
theorem q1023 : (Jvm.Cond.soleField "CreditBroker$Fault" "place") ∈ lw_all := lw_g (lw_at lw_m4 207 rfl) rfl
theorem q1024 : (Jvm.Cond.lays "CreditBroker$Fault" "java/lang/Throwable" "depth" "I") ∈ lw_all := lw_g (lw_at lw_m4 208 rfl) rfl
theorem q1025 : (Jvm.Cond.superclass "CreditBroker$Fault" "java/lang/Exception") ∈ lw_all := lw_g (lw_at lw_m4 209 rfl) rfl
theorem q1066 : (Jvm.Cond.selects "CreditBroker$Fault" ({ cls := "java/lang/Object", name := "getClass", desc := "()Ljava/lang/Class;" } : Jvm.MethodName) ({ cls := "java/lang/Object", name := "getClass", desc := "()Ljava/lang/Class;" } : Jvm.MethodName)) ∈ lw_all := lw_g (lw_at lw_m5 10 rfl) rfl
theorem q1406 : (Jvm.Cond.selects "CreditBroker$Fault" ({ cls := "java/lang/Throwable", name := "toString", desc := "()Ljava/lang/String;" } : Jvm.MethodName) ({ cls := "java/lang/Throwable", name := "toString", desc := "()Ljava/lang/String;" } : Jvm.MethodName)) ∈ lw_all := lw_g (lw_at lw_m6 110 rfl) rfl
theorem q1422 : (Jvm.Cond.selects "CreditBroker$Fault" ({ cls := "java/lang/Throwable", name := "getLocalizedMessage", desc := "()Ljava/lang/String;" } : Jvm.MethodName) ({ cls := "java/lang/Throwable", name := "getLocalizedMessage", desc := "()Ljava/lang/String;" } : Jvm.MethodName)) ∈ lw_all := lw_g (lw_at lw_m6 126 rfl) rfl
theorem q1437 : (Jvm.Cond.selects "CreditBroker$Fault" ({ cls := "java/lang/Throwable", name := "getMessage", desc := "()Ljava/lang/String;" } : Jvm.MethodName) ({ cls := "java/lang/Throwable", name := "getMessage", desc := "()Ljava/lang/String;" } : Jvm.MethodName)) ∈ lw_all := lw_g (lw_at lw_m6 141 rfl) rfl
theorem q1810 : (Jvm.Cond.selects "CreditBroker$Fault" ({ cls := "java/lang/Object", name := "equals", desc := "(Ljava/lang/Object;)Z" } : Jvm.MethodName) ({ cls := "java/lang/Object", name := "equals", desc := "(Ljava/lang/Object;)Z" } : Jvm.MethodName)) ∈ lw_all := lw_g (lw_at lw_m8 34 rfl) rfl
theorem q3328 : (Jvm.Cond.castable "CreditBroker$Fault" "java/lang/Object") ∈ lw_tbl := lw_at lw_m14 112 rfl
theorem in_X7 : ∀ w ∈ wsX70, w ∈ lw_all := lw_in wsX70 [1011, 1012, 1013, 1014, 1015, 1024, 1022] (by decide +kernel) (by decide +kernel)
/-! CreditBroker$Queue -/
def RX8 : String := "CreditBroker$Queue"
def TX8 : u_T := fun k => match k with
  | 0 => ("CreditBroker$Queue", "number", "I", true)
  | 1 => ("CreditBroker$Queue", "pattern", "LCreditBroker$Pattern;", true)
  | 2 => ("CreditBroker$Queue", "limit", "I", true)
  | 3 => ("CreditBroker$Queue", "tries", "I", true)
  | 4 => ("CreditBroker$Queue", "lease", "I", true)
  | 5 => ("CreditBroker$Queue", "age", "I", true)
  | 6 => ("CreditBroker$Queue", "isExclusive", "Z", false)
  | 7 => ("CreditBroker$Queue", "letters", "Ljava/util/ArrayList;", true)
  | 8 => ("CreditBroker$Queue", "byPriority", "LCreditBroker$ByPriority;", true)
  | 9 => ("CreditBroker$Queue", "latest", "I", false)
  | 10 => ("CreditBroker$Queue", "given", "I", false)
  | 11 => ("CreditBroker$Queue", "acknowledged", "I", false)
  | _ => ("CreditBroker$Queue", "died", "I", false)
def tyX8 : Nat → FieldType := fun k => match k with
  | 0 => .int
  | 1 => .object "CreditBroker$Pattern"
  | 2 => .int
  | 3 => .int
  | 4 => .int
  | 5 => .int
  | 6 => .boolean
  | 7 => .object "java/util/ArrayList"
  | 8 => .object "CreditBroker$ByPriority"
  | 9 => .int
  | 10 => .int
  | 11 => .int
  | _ => .int
abbrev wsX80 : List Cond := u_ws RX8 TX8 13
theorem nmX8 : ∀ a, a < 13 → ∀ b, b < 13 → a ≠ b → (TX8 a).2.1 ≠ (TX8 b).2.1 := by decide +kernel
theorem tyX8_ok : ∀ k, k < 13 → parseFieldDescriptor (TX8 k).2.2.1 = some (tyX8 k) := by decide +kernel
abbrev cX8_init : ByteArray := prog_15_method_1_code
def yX8_init : MethodName := ⟨RX8, "<init>", "(ILCreditBroker$Pattern;[I)V"⟩
def dkwX8_init_3 : List UInt8 := [177]
abbrev dktX8_init_3 : List UInt8 := dkwX8_init_3 ++ []
def dkwX8_init_2 : List UInt8 := [181, 0, 36, 42, 45, 4, 46, 181, 0, 39, 42, 45, 5, 46, 181, 0, 42, 42, 45, 6, 46, 181, 0, 45]
abbrev dktX8_init_2 : List UInt8 := dkwX8_init_2 ++ dktX8_init_3
def dkwX8_init_1 : List UInt8 := [181, 0, 21, 42, 2, 181, 0, 25, 42, 27, 181, 0, 29, 42, 44, 181, 0, 32, 42, 45, 3, 46]
abbrev dktX8_init_1 : List UInt8 := dkwX8_init_1 ++ dktX8_init_2
def dkwX8_init_0 : List UInt8 := [42, 183, 0, 3, 42, 187, 0, 9, 89, 183, 0, 11, 181, 0, 12, 42, 187, 0, 18, 89, 183, 0, 20]
abbrev dktX8_init_0 : List UInt8 := dkwX8_init_0 ++ dktX8_init_1
theorem dksX8_init_0 : cX8_init.data.toList.drop 0 = dktX8_init_0 := by decide +kernel
theorem dksX8_init_1 : cX8_init.data.toList.drop 23 = dktX8_init_1 := dk_seg dksX8_init_0 23 rfl rfl
theorem dksX8_init_2 : cX8_init.data.toList.drop 45 = dktX8_init_2 := dk_seg dksX8_init_1 22 rfl rfl
theorem dksX8_init_3 : cX8_init.data.toList.drop 69 = dktX8_init_3 := dk_seg dksX8_init_2 24 rfl rfl
theorem dX8_init_0 : decode cX8_init 0 = .ok (.aload_n 0, 1) := dk_42 (dk_at dksX8_init_0 0 rfl rfl)
theorem dX8_init_1 : decode cX8_init 1 = .ok (.invokespecial 3, 3) := dk_183 0 3 (dk_at dksX8_init_0 1 rfl rfl)
theorem dX8_init_4 : decode cX8_init 4 = .ok (.aload_n 0, 1) := dk_42 (dk_at dksX8_init_0 4 rfl rfl)
theorem dX8_init_5 : decode cX8_init 5 = .ok (.new 9, 3) := dk_187 0 9 (dk_at dksX8_init_0 5 rfl rfl)
theorem dX8_init_8 : decode cX8_init 8 = .ok (.dup, 1) := dk_89 (dk_at dksX8_init_0 8 rfl rfl)
theorem dX8_init_9 : decode cX8_init 9 = .ok (.invokespecial 11, 3) := dk_183 0 11 (dk_at dksX8_init_0 9 rfl rfl)
theorem dX8_init_12 : decode cX8_init 12 = .ok (.putfield 12, 3) := dk_181 0 12 (dk_at dksX8_init_0 12 rfl rfl)
theorem dX8_init_15 : decode cX8_init 15 = .ok (.aload_n 0, 1) := dk_42 (dk_at dksX8_init_0 15 rfl rfl)
theorem dX8_init_16 : decode cX8_init 16 = .ok (.new 18, 3) := dk_187 0 18 (dk_at dksX8_init_0 16 rfl rfl)
theorem dX8_init_19 : decode cX8_init 19 = .ok (.dup, 1) := dk_89 (dk_at dksX8_init_0 19 rfl rfl)
theorem dX8_init_20 : decode cX8_init 20 = .ok (.invokespecial 20, 3) := dk_183 0 20 (dk_at dksX8_init_0 20 rfl rfl)
theorem dX8_init_23 : decode cX8_init 23 = .ok (.putfield 21, 3) := dk_181 0 21 (dk_at dksX8_init_1 0 rfl rfl)
theorem dX8_init_26 : decode cX8_init 26 = .ok (.aload_n 0, 1) := dk_42 (dk_at dksX8_init_1 3 rfl rfl)
theorem dX8_init_27 : decode cX8_init 27 = .ok (.iconst (-1), 1) := dk_2 (dk_at dksX8_init_1 4 rfl rfl)
theorem dX8_init_28 : decode cX8_init 28 = .ok (.putfield 25, 3) := dk_181 0 25 (dk_at dksX8_init_1 5 rfl rfl)
theorem dX8_init_31 : decode cX8_init 31 = .ok (.aload_n 0, 1) := dk_42 (dk_at dksX8_init_1 8 rfl rfl)
theorem dX8_init_32 : decode cX8_init 32 = .ok (.iload_n 1, 1) := dk_27 (dk_at dksX8_init_1 9 rfl rfl)
theorem dX8_init_33 : decode cX8_init 33 = .ok (.putfield 29, 3) := dk_181 0 29 (dk_at dksX8_init_1 10 rfl rfl)
theorem dX8_init_36 : decode cX8_init 36 = .ok (.aload_n 0, 1) := dk_42 (dk_at dksX8_init_1 13 rfl rfl)
theorem dX8_init_37 : decode cX8_init 37 = .ok (.aload_n 2, 1) := dk_44 (dk_at dksX8_init_1 14 rfl rfl)
theorem dX8_init_38 : decode cX8_init 38 = .ok (.putfield 32, 3) := dk_181 0 32 (dk_at dksX8_init_1 15 rfl rfl)
theorem dX8_init_41 : decode cX8_init 41 = .ok (.aload_n 0, 1) := dk_42 (dk_at dksX8_init_1 18 rfl rfl)
theorem dX8_init_42 : decode cX8_init 42 = .ok (.aload_n 3, 1) := dk_45 (dk_at dksX8_init_1 19 rfl rfl)
theorem dX8_init_43 : decode cX8_init 43 = .ok (.iconst 0, 1) := dk_3 (dk_at dksX8_init_1 20 rfl rfl)
theorem dX8_init_44 : decode cX8_init 44 = .ok (.iaload, 1) := dk_46 (dk_at dksX8_init_1 21 rfl rfl)
theorem dX8_init_45 : decode cX8_init 45 = .ok (.putfield 36, 3) := dk_181 0 36 (dk_at dksX8_init_2 0 rfl rfl)
theorem dX8_init_48 : decode cX8_init 48 = .ok (.aload_n 0, 1) := dk_42 (dk_at dksX8_init_2 3 rfl rfl)
theorem dX8_init_49 : decode cX8_init 49 = .ok (.aload_n 3, 1) := dk_45 (dk_at dksX8_init_2 4 rfl rfl)
theorem dX8_init_50 : decode cX8_init 50 = .ok (.iconst 1, 1) := dk_4 (dk_at dksX8_init_2 5 rfl rfl)
theorem dX8_init_51 : decode cX8_init 51 = .ok (.iaload, 1) := dk_46 (dk_at dksX8_init_2 6 rfl rfl)
theorem dX8_init_52 : decode cX8_init 52 = .ok (.putfield 39, 3) := dk_181 0 39 (dk_at dksX8_init_2 7 rfl rfl)
theorem dX8_init_55 : decode cX8_init 55 = .ok (.aload_n 0, 1) := dk_42 (dk_at dksX8_init_2 10 rfl rfl)
theorem dX8_init_56 : decode cX8_init 56 = .ok (.aload_n 3, 1) := dk_45 (dk_at dksX8_init_2 11 rfl rfl)
theorem dX8_init_57 : decode cX8_init 57 = .ok (.iconst 2, 1) := dk_5 (dk_at dksX8_init_2 12 rfl rfl)
theorem dX8_init_58 : decode cX8_init 58 = .ok (.iaload, 1) := dk_46 (dk_at dksX8_init_2 13 rfl rfl)
theorem dX8_init_59 : decode cX8_init 59 = .ok (.putfield 42, 3) := dk_181 0 42 (dk_at dksX8_init_2 14 rfl rfl)
theorem dX8_init_62 : decode cX8_init 62 = .ok (.aload_n 0, 1) := dk_42 (dk_at dksX8_init_2 17 rfl rfl)
theorem dX8_init_63 : decode cX8_init 63 = .ok (.aload_n 3, 1) := dk_45 (dk_at dksX8_init_2 18 rfl rfl)
theorem dX8_init_64 : decode cX8_init 64 = .ok (.iconst 3, 1) := dk_6 (dk_at dksX8_init_2 19 rfl rfl)
theorem dX8_init_65 : decode cX8_init 65 = .ok (.iaload, 1) := dk_46 (dk_at dksX8_init_2 20 rfl rfl)
theorem dX8_init_66 : decode cX8_init 66 = .ok (.putfield 45, 3) := dk_181 0 45 (dk_at dksX8_init_2 21 rfl rfl)
theorem dX8_init_69 : decode cX8_init 69 = .ok (.return_, 1) := dk_177 (dk_at dksX8_init_3 0 rfl rfl)
abbrev cX8_isFull : ByteArray := prog_15_method_8_code
def yX8_isFull : MethodName := ⟨RX8, "isFull", "()Z"⟩
def dkwX8_isFull_0 : List UInt8 := [42, 180, 0, 12, 182, 0, 87, 42, 180, 0, 36, 161, 0, 7, 4, 167, 0, 4, 3, 172]
abbrev dktX8_isFull_0 : List UInt8 := dkwX8_isFull_0 ++ []
theorem dksX8_isFull_0 : cX8_isFull.data.toList.drop 0 = dktX8_isFull_0 := by decide +kernel
theorem dX8_isFull_0 : decode cX8_isFull 0 = .ok (.aload_n 0, 1) := dk_42 (dk_at dksX8_isFull_0 0 rfl rfl)
theorem dX8_isFull_1 : decode cX8_isFull 1 = .ok (.getfield 12, 3) := dk_180 0 12 (dk_at dksX8_isFull_0 1 rfl rfl)
theorem dX8_isFull_4 : decode cX8_isFull 4 = .ok (.invokevirtual 87, 3) := dk_182 0 87 (dk_at dksX8_isFull_0 4 rfl rfl)
theorem dX8_isFull_7 : decode cX8_isFull 7 = .ok (.aload_n 0, 1) := dk_42 (dk_at dksX8_isFull_0 7 rfl rfl)
theorem dX8_isFull_8 : decode cX8_isFull 8 = .ok (.getfield 36, 3) := dk_180 0 36 (dk_at dksX8_isFull_0 8 rfl rfl)
theorem dX8_isFull_11 : decode cX8_isFull 11 = .ok (.if_icmp .lt 7, 3) := dk_161 0 7 (dk_at dksX8_isFull_0 11 rfl rfl)
theorem dX8_isFull_14 : decode cX8_isFull 14 = .ok (.iconst 1, 1) := dk_4 (dk_at dksX8_isFull_0 14 rfl rfl)
theorem dX8_isFull_15 : decode cX8_isFull 15 = .ok (.goto 4, 3) := dk_167 0 4 (dk_at dksX8_isFull_0 15 rfl rfl)
theorem dX8_isFull_18 : decode cX8_isFull 18 = .ok (.iconst 0, 1) := dk_3 (dk_at dksX8_isFull_0 18 rfl rfl)
theorem dX8_isFull_19 : decode cX8_isFull 19 = .ok (.ireturn, 1) := dk_172 (dk_at dksX8_isFull_0 19 rfl rfl)
abbrev cX8_next : ByteArray := prog_15_method_6_code
def yX8_next : MethodName := ⟨RX8, "next", "()LCreditBroker$Letter;"⟩
def dkwX8_next_4 : List UInt8 := [21, 5, 128, 61, 132, 3, 1, 167, 255, 165, 43, 176]
abbrev dktX8_next_4 : List UInt8 := dkwX8_next_4 ++ []
def dkwX8_next_3 : List UInt8 := [153, 0, 23, 43, 198, 0, 16, 42, 180, 0, 21, 25, 4, 43, 182, 0, 119, 156, 0, 6, 25, 4, 76, 28]
abbrev dktX8_next_3 : List UInt8 := dkwX8_next_3 ++ dktX8_next_4
def dkwX8_next_2 : List UInt8 := [180, 0, 115, 154, 0, 14, 28, 21, 5, 126, 154, 0, 7, 4, 167, 0, 4, 3, 54, 6, 21, 6]
abbrev dktX8_next_2 : List UInt8 := dkwX8_next_2 ++ dktX8_next_3
def dkwX8_next_1 : List UInt8 := [182, 0, 91, 192, 0, 69, 58, 4, 4, 25, 4, 180, 0, 106, 180, 0, 110, 120, 54, 5, 25, 4]
abbrev dktX8_next_1 : List UInt8 := dkwX8_next_1 ++ dktX8_next_2
def dkwX8_next_0 : List UInt8 := [1, 76, 3, 61, 3, 62, 29, 42, 180, 0, 12, 182, 0, 87, 162, 0, 86, 42, 180, 0, 12, 29]
abbrev dktX8_next_0 : List UInt8 := dkwX8_next_0 ++ dktX8_next_1
theorem dksX8_next_0 : cX8_next.data.toList.drop 0 = dktX8_next_0 := by decide +kernel
theorem dksX8_next_1 : cX8_next.data.toList.drop 22 = dktX8_next_1 := dk_seg dksX8_next_0 22 rfl rfl
theorem dksX8_next_2 : cX8_next.data.toList.drop 44 = dktX8_next_2 := dk_seg dksX8_next_1 22 rfl rfl
theorem dksX8_next_3 : cX8_next.data.toList.drop 66 = dktX8_next_3 := dk_seg dksX8_next_2 22 rfl rfl
theorem dksX8_next_4 : cX8_next.data.toList.drop 90 = dktX8_next_4 := dk_seg dksX8_next_3 24 rfl rfl
theorem dX8_next_0 : decode cX8_next 0 = .ok (.aconst_null, 1) := dk_1 (dk_at dksX8_next_0 0 rfl rfl)
theorem dX8_next_1 : decode cX8_next 1 = .ok (.astore_n 1, 1) := dk_76 (dk_at dksX8_next_0 1 rfl rfl)
theorem dX8_next_2 : decode cX8_next 2 = .ok (.iconst 0, 1) := dk_3 (dk_at dksX8_next_0 2 rfl rfl)
theorem dX8_next_3 : decode cX8_next 3 = .ok (.istore_n 2, 1) := dk_61 (dk_at dksX8_next_0 3 rfl rfl)
theorem dX8_next_4 : decode cX8_next 4 = .ok (.iconst 0, 1) := dk_3 (dk_at dksX8_next_0 4 rfl rfl)
theorem dX8_next_5 : decode cX8_next 5 = .ok (.istore_n 3, 1) := dk_62 (dk_at dksX8_next_0 5 rfl rfl)
theorem dX8_next_6 : decode cX8_next 6 = .ok (.iload_n 3, 1) := dk_29 (dk_at dksX8_next_0 6 rfl rfl)
theorem dX8_next_7 : decode cX8_next 7 = .ok (.aload_n 0, 1) := dk_42 (dk_at dksX8_next_0 7 rfl rfl)
theorem dX8_next_8 : decode cX8_next 8 = .ok (.getfield 12, 3) := dk_180 0 12 (dk_at dksX8_next_0 8 rfl rfl)
theorem dX8_next_11 : decode cX8_next 11 = .ok (.invokevirtual 87, 3) := dk_182 0 87 (dk_at dksX8_next_0 11 rfl rfl)
theorem dX8_next_14 : decode cX8_next 14 = .ok (.if_icmp .ge 86, 3) := dk_162 0 86 (dk_at dksX8_next_0 14 rfl rfl)
theorem dX8_next_17 : decode cX8_next 17 = .ok (.aload_n 0, 1) := dk_42 (dk_at dksX8_next_0 17 rfl rfl)
theorem dX8_next_18 : decode cX8_next 18 = .ok (.getfield 12, 3) := dk_180 0 12 (dk_at dksX8_next_0 18 rfl rfl)
theorem dX8_next_21 : decode cX8_next 21 = .ok (.iload_n 3, 1) := dk_29 (dk_at dksX8_next_0 21 rfl rfl)
theorem dX8_next_22 : decode cX8_next 22 = .ok (.invokevirtual 91, 3) := dk_182 0 91 (dk_at dksX8_next_1 0 rfl rfl)
theorem dX8_next_25 : decode cX8_next 25 = .ok (.checkcast 69, 3) := dk_192 0 69 (dk_at dksX8_next_1 3 rfl rfl)
theorem dX8_next_28 : decode cX8_next 28 = .ok (.astore 4, 2) := dk_58 4 (dk_at dksX8_next_1 6 rfl rfl)
theorem dX8_next_30 : decode cX8_next 30 = .ok (.iconst 1, 1) := dk_4 (dk_at dksX8_next_1 8 rfl rfl)
theorem dX8_next_31 : decode cX8_next 31 = .ok (.aload 4, 2) := dk_25 4 (dk_at dksX8_next_1 9 rfl rfl)
theorem dX8_next_33 : decode cX8_next 33 = .ok (.getfield 106, 3) := dk_180 0 106 (dk_at dksX8_next_1 11 rfl rfl)
theorem dX8_next_36 : decode cX8_next 36 = .ok (.getfield 110, 3) := dk_180 0 110 (dk_at dksX8_next_1 14 rfl rfl)
theorem dX8_next_39 : decode cX8_next 39 = .ok (.ishl, 1) := dk_120 (dk_at dksX8_next_1 17 rfl rfl)
theorem dX8_next_40 : decode cX8_next 40 = .ok (.istore 5, 2) := dk_54 5 (dk_at dksX8_next_1 18 rfl rfl)
theorem dX8_next_42 : decode cX8_next 42 = .ok (.aload 4, 2) := dk_25 4 (dk_at dksX8_next_1 20 rfl rfl)
theorem dX8_next_44 : decode cX8_next 44 = .ok (.getfield 115, 3) := dk_180 0 115 (dk_at dksX8_next_2 0 rfl rfl)
theorem dX8_next_47 : decode cX8_next 47 = .ok (.ifCond .ne 14, 3) := dk_154 0 14 (dk_at dksX8_next_2 3 rfl rfl)
theorem dX8_next_50 : decode cX8_next 50 = .ok (.iload_n 2, 1) := dk_28 (dk_at dksX8_next_2 6 rfl rfl)
theorem dX8_next_51 : decode cX8_next 51 = .ok (.iload 5, 2) := dk_21 5 (dk_at dksX8_next_2 7 rfl rfl)
theorem dX8_next_53 : decode cX8_next 53 = .ok (.iand, 1) := dk_126 (dk_at dksX8_next_2 9 rfl rfl)
theorem dX8_next_54 : decode cX8_next 54 = .ok (.ifCond .ne 7, 3) := dk_154 0 7 (dk_at dksX8_next_2 10 rfl rfl)
theorem dX8_next_57 : decode cX8_next 57 = .ok (.iconst 1, 1) := dk_4 (dk_at dksX8_next_2 13 rfl rfl)
theorem dX8_next_58 : decode cX8_next 58 = .ok (.goto 4, 3) := dk_167 0 4 (dk_at dksX8_next_2 14 rfl rfl)
theorem dX8_next_61 : decode cX8_next 61 = .ok (.iconst 0, 1) := dk_3 (dk_at dksX8_next_2 17 rfl rfl)
theorem dX8_next_62 : decode cX8_next 62 = .ok (.istore 6, 2) := dk_54 6 (dk_at dksX8_next_2 18 rfl rfl)
theorem dX8_next_64 : decode cX8_next 64 = .ok (.iload 6, 2) := dk_21 6 (dk_at dksX8_next_2 20 rfl rfl)
theorem dX8_next_66 : decode cX8_next 66 = .ok (.ifCond .eq 23, 3) := dk_153 0 23 (dk_at dksX8_next_3 0 rfl rfl)
theorem dX8_next_69 : decode cX8_next 69 = .ok (.aload_n 1, 1) := dk_43 (dk_at dksX8_next_3 3 rfl rfl)
theorem dX8_next_70 : decode cX8_next 70 = .ok (.ifnull 16, 3) := dk_198 0 16 (dk_at dksX8_next_3 4 rfl rfl)
theorem dX8_next_73 : decode cX8_next 73 = .ok (.aload_n 0, 1) := dk_42 (dk_at dksX8_next_3 7 rfl rfl)
theorem dX8_next_74 : decode cX8_next 74 = .ok (.getfield 21, 3) := dk_180 0 21 (dk_at dksX8_next_3 8 rfl rfl)
theorem dX8_next_77 : decode cX8_next 77 = .ok (.aload 4, 2) := dk_25 4 (dk_at dksX8_next_3 11 rfl rfl)
theorem dX8_next_79 : decode cX8_next 79 = .ok (.aload_n 1, 1) := dk_43 (dk_at dksX8_next_3 13 rfl rfl)
theorem dX8_next_80 : decode cX8_next 80 = .ok (.invokevirtual 119, 3) := dk_182 0 119 (dk_at dksX8_next_3 14 rfl rfl)
theorem dX8_next_83 : decode cX8_next 83 = .ok (.ifCond .ge 6, 3) := dk_156 0 6 (dk_at dksX8_next_3 17 rfl rfl)
theorem dX8_next_86 : decode cX8_next 86 = .ok (.aload 4, 2) := dk_25 4 (dk_at dksX8_next_3 20 rfl rfl)
theorem dX8_next_88 : decode cX8_next 88 = .ok (.astore_n 1, 1) := dk_76 (dk_at dksX8_next_3 22 rfl rfl)
theorem dX8_next_89 : decode cX8_next 89 = .ok (.iload_n 2, 1) := dk_28 (dk_at dksX8_next_3 23 rfl rfl)
theorem dX8_next_90 : decode cX8_next 90 = .ok (.iload 5, 2) := dk_21 5 (dk_at dksX8_next_4 0 rfl rfl)
theorem dX8_next_92 : decode cX8_next 92 = .ok (.ior, 1) := dk_128 (dk_at dksX8_next_4 2 rfl rfl)
theorem dX8_next_93 : decode cX8_next 93 = .ok (.istore_n 2, 1) := dk_61 (dk_at dksX8_next_4 3 rfl rfl)
theorem dX8_next_94 : decode cX8_next 94 = .ok (.iinc 3 1, 3) := dk_132 3 1 (dk_at dksX8_next_4 4 rfl rfl)
theorem dX8_next_97 : decode cX8_next 97 = .ok (.goto (-91), 3) := dk_167 255 165 (dk_at dksX8_next_4 7 rfl rfl)
theorem dX8_next_100 : decode cX8_next 100 = .ok (.aload_n 1, 1) := dk_43 (dk_at dksX8_next_4 10 rfl rfl)
theorem dX8_next_101 : decode cX8_next 101 = .ok (.areturn, 1) := dk_176 (dk_at dksX8_next_4 11 rfl rfl)
abbrev cX8_many : ByteArray := prog_15_method_3_code
def yX8_many : MethodName := ⟨RX8, "many", "(LCreditBroker$Which;)I"⟩
def dkwX8_many_2 : List UInt8 := [167, 255, 214, 28, 172]
abbrev dktX8_many_2 : List UInt8 := dkwX8_many_2 ++ []
def dkwX8_many_1 : List UInt8 := [182, 0, 91, 192, 0, 69, 185, 0, 95, 2, 0, 153, 0, 7, 4, 167, 0, 4, 3, 96, 61, 132, 3, 1]
abbrev dktX8_many_1 : List UInt8 := dkwX8_many_1 ++ dktX8_many_2
def dkwX8_many_0 : List UInt8 := [3, 61, 3, 62, 29, 42, 180, 0, 12, 182, 0, 87, 162, 0, 37, 28, 43, 42, 180, 0, 12, 29]
abbrev dktX8_many_0 : List UInt8 := dkwX8_many_0 ++ dktX8_many_1
theorem dksX8_many_0 : cX8_many.data.toList.drop 0 = dktX8_many_0 := by decide +kernel
theorem dksX8_many_1 : cX8_many.data.toList.drop 22 = dktX8_many_1 := dk_seg dksX8_many_0 22 rfl rfl
theorem dksX8_many_2 : cX8_many.data.toList.drop 46 = dktX8_many_2 := dk_seg dksX8_many_1 24 rfl rfl
theorem dX8_many_0 : decode cX8_many 0 = .ok (.iconst 0, 1) := dk_3 (dk_at dksX8_many_0 0 rfl rfl)
theorem dX8_many_1 : decode cX8_many 1 = .ok (.istore_n 2, 1) := dk_61 (dk_at dksX8_many_0 1 rfl rfl)
theorem dX8_many_2 : decode cX8_many 2 = .ok (.iconst 0, 1) := dk_3 (dk_at dksX8_many_0 2 rfl rfl)
theorem dX8_many_3 : decode cX8_many 3 = .ok (.istore_n 3, 1) := dk_62 (dk_at dksX8_many_0 3 rfl rfl)
theorem dX8_many_4 : decode cX8_many 4 = .ok (.iload_n 3, 1) := dk_29 (dk_at dksX8_many_0 4 rfl rfl)
theorem dX8_many_5 : decode cX8_many 5 = .ok (.aload_n 0, 1) := dk_42 (dk_at dksX8_many_0 5 rfl rfl)
theorem dX8_many_6 : decode cX8_many 6 = .ok (.getfield 12, 3) := dk_180 0 12 (dk_at dksX8_many_0 6 rfl rfl)
theorem dX8_many_9 : decode cX8_many 9 = .ok (.invokevirtual 87, 3) := dk_182 0 87 (dk_at dksX8_many_0 9 rfl rfl)
theorem dX8_many_12 : decode cX8_many 12 = .ok (.if_icmp .ge 37, 3) := dk_162 0 37 (dk_at dksX8_many_0 12 rfl rfl)
theorem dX8_many_15 : decode cX8_many 15 = .ok (.iload_n 2, 1) := dk_28 (dk_at dksX8_many_0 15 rfl rfl)
theorem dX8_many_16 : decode cX8_many 16 = .ok (.aload_n 1, 1) := dk_43 (dk_at dksX8_many_0 16 rfl rfl)
theorem dX8_many_17 : decode cX8_many 17 = .ok (.aload_n 0, 1) := dk_42 (dk_at dksX8_many_0 17 rfl rfl)
theorem dX8_many_18 : decode cX8_many 18 = .ok (.getfield 12, 3) := dk_180 0 12 (dk_at dksX8_many_0 18 rfl rfl)
theorem dX8_many_21 : decode cX8_many 21 = .ok (.iload_n 3, 1) := dk_29 (dk_at dksX8_many_0 21 rfl rfl)
theorem dX8_many_22 : decode cX8_many 22 = .ok (.invokevirtual 91, 3) := dk_182 0 91 (dk_at dksX8_many_1 0 rfl rfl)
theorem dX8_many_25 : decode cX8_many 25 = .ok (.checkcast 69, 3) := dk_192 0 69 (dk_at dksX8_many_1 3 rfl rfl)
theorem dX8_many_28 : decode cX8_many 28 = .ok (.invokeinterface 95 2, 5) := by decide +kernel
theorem dX8_many_33 : decode cX8_many 33 = .ok (.ifCond .eq 7, 3) := dk_153 0 7 (dk_at dksX8_many_1 11 rfl rfl)
theorem dX8_many_36 : decode cX8_many 36 = .ok (.iconst 1, 1) := dk_4 (dk_at dksX8_many_1 14 rfl rfl)
theorem dX8_many_37 : decode cX8_many 37 = .ok (.goto 4, 3) := dk_167 0 4 (dk_at dksX8_many_1 15 rfl rfl)
theorem dX8_many_40 : decode cX8_many 40 = .ok (.iconst 0, 1) := dk_3 (dk_at dksX8_many_1 18 rfl rfl)
theorem dX8_many_41 : decode cX8_many 41 = .ok (.iadd, 1) := dk_96 (dk_at dksX8_many_1 19 rfl rfl)
theorem dX8_many_42 : decode cX8_many 42 = .ok (.istore_n 2, 1) := dk_61 (dk_at dksX8_many_1 20 rfl rfl)
theorem dX8_many_43 : decode cX8_many 43 = .ok (.iinc 3 1, 3) := dk_132 3 1 (dk_at dksX8_many_1 21 rfl rfl)
theorem dX8_many_46 : decode cX8_many 46 = .ok (.goto (-42), 3) := dk_167 255 214 (dk_at dksX8_many_2 0 rfl rfl)
theorem dX8_many_49 : decode cX8_many 49 = .ok (.iload_n 2, 1) := dk_28 (dk_at dksX8_many_2 3 rfl rfl)
theorem dX8_many_50 : decode cX8_many 50 = .ok (.ireturn, 1) := dk_172 (dk_at dksX8_many_2 4 rfl rfl)
abbrev cX8_takes : ByteArray := prog_15_method_9_code
def yX8_takes : MethodName := ⟨RX8, "takes", "(LCreditBroker$Letter;)V"⟩
def dkwX8_takes_3 : List UInt8 := [177]
abbrev dktX8_takes_3 : List UInt8 := dkwX8_takes_3 ++ []
def dkwX8_takes_2 : List UInt8 := [180, 0, 123, 164, 0, 6, 167, 0, 9, 132, 2, 1, 167, 255, 212, 42, 180, 0, 12, 28, 43, 182, 0, 124]
abbrev dktX8_takes_2 : List UInt8 := dkwX8_takes_2 ++ dktX8_takes_3
def dkwX8_takes_1 : List UInt8 := [185, 0, 65, 1, 0, 192, 0, 69, 58, 4, 25, 4, 180, 0, 106, 180, 0, 123, 43, 180, 0, 106]
abbrev dktX8_takes_1 : List UInt8 := dkwX8_takes_1 ++ dktX8_takes_2
def dkwX8_takes_0 : List UInt8 := [3, 61, 42, 180, 0, 12, 182, 0, 55, 78, 45, 185, 0, 59, 1, 0, 153, 0, 41, 45]
abbrev dktX8_takes_0 : List UInt8 := dkwX8_takes_0 ++ dktX8_takes_1
theorem dksX8_takes_0 : cX8_takes.data.toList.drop 0 = dktX8_takes_0 := by decide +kernel
theorem dksX8_takes_1 : cX8_takes.data.toList.drop 20 = dktX8_takes_1 := dk_seg dksX8_takes_0 20 rfl rfl
theorem dksX8_takes_2 : cX8_takes.data.toList.drop 42 = dktX8_takes_2 := dk_seg dksX8_takes_1 22 rfl rfl
theorem dksX8_takes_3 : cX8_takes.data.toList.drop 66 = dktX8_takes_3 := dk_seg dksX8_takes_2 24 rfl rfl
theorem dX8_takes_0 : decode cX8_takes 0 = .ok (.iconst 0, 1) := dk_3 (dk_at dksX8_takes_0 0 rfl rfl)
theorem dX8_takes_1 : decode cX8_takes 1 = .ok (.istore_n 2, 1) := dk_61 (dk_at dksX8_takes_0 1 rfl rfl)
theorem dX8_takes_2 : decode cX8_takes 2 = .ok (.aload_n 0, 1) := dk_42 (dk_at dksX8_takes_0 2 rfl rfl)
theorem dX8_takes_3 : decode cX8_takes 3 = .ok (.getfield 12, 3) := dk_180 0 12 (dk_at dksX8_takes_0 3 rfl rfl)
theorem dX8_takes_6 : decode cX8_takes 6 = .ok (.invokevirtual 55, 3) := dk_182 0 55 (dk_at dksX8_takes_0 6 rfl rfl)
theorem dX8_takes_9 : decode cX8_takes 9 = .ok (.astore_n 3, 1) := dk_78 (dk_at dksX8_takes_0 9 rfl rfl)
theorem dX8_takes_10 : decode cX8_takes 10 = .ok (.aload_n 3, 1) := dk_45 (dk_at dksX8_takes_0 10 rfl rfl)
theorem dX8_takes_11 : decode cX8_takes 11 = .ok (.invokeinterface 59 1, 5) := by decide +kernel
theorem dX8_takes_16 : decode cX8_takes 16 = .ok (.ifCond .eq 41, 3) := dk_153 0 41 (dk_at dksX8_takes_0 16 rfl rfl)
theorem dX8_takes_19 : decode cX8_takes 19 = .ok (.aload_n 3, 1) := dk_45 (dk_at dksX8_takes_0 19 rfl rfl)
theorem dX8_takes_20 : decode cX8_takes 20 = .ok (.invokeinterface 65 1, 5) := by decide +kernel
theorem dX8_takes_25 : decode cX8_takes 25 = .ok (.checkcast 69, 3) := dk_192 0 69 (dk_at dksX8_takes_1 5 rfl rfl)
theorem dX8_takes_28 : decode cX8_takes 28 = .ok (.astore 4, 2) := dk_58 4 (dk_at dksX8_takes_1 8 rfl rfl)
theorem dX8_takes_30 : decode cX8_takes 30 = .ok (.aload 4, 2) := dk_25 4 (dk_at dksX8_takes_1 10 rfl rfl)
theorem dX8_takes_32 : decode cX8_takes 32 = .ok (.getfield 106, 3) := dk_180 0 106 (dk_at dksX8_takes_1 12 rfl rfl)
theorem dX8_takes_35 : decode cX8_takes 35 = .ok (.getfield 123, 3) := dk_180 0 123 (dk_at dksX8_takes_1 15 rfl rfl)
theorem dX8_takes_38 : decode cX8_takes 38 = .ok (.aload_n 1, 1) := dk_43 (dk_at dksX8_takes_1 18 rfl rfl)
theorem dX8_takes_39 : decode cX8_takes 39 = .ok (.getfield 106, 3) := dk_180 0 106 (dk_at dksX8_takes_1 19 rfl rfl)
theorem dX8_takes_42 : decode cX8_takes 42 = .ok (.getfield 123, 3) := dk_180 0 123 (dk_at dksX8_takes_2 0 rfl rfl)
theorem dX8_takes_45 : decode cX8_takes 45 = .ok (.if_icmp .le 6, 3) := dk_164 0 6 (dk_at dksX8_takes_2 3 rfl rfl)
theorem dX8_takes_48 : decode cX8_takes 48 = .ok (.goto 9, 3) := dk_167 0 9 (dk_at dksX8_takes_2 6 rfl rfl)
theorem dX8_takes_51 : decode cX8_takes 51 = .ok (.iinc 2 1, 3) := dk_132 2 1 (dk_at dksX8_takes_2 9 rfl rfl)
theorem dX8_takes_54 : decode cX8_takes 54 = .ok (.goto (-44), 3) := dk_167 255 212 (dk_at dksX8_takes_2 12 rfl rfl)
theorem dX8_takes_57 : decode cX8_takes 57 = .ok (.aload_n 0, 1) := dk_42 (dk_at dksX8_takes_2 15 rfl rfl)
theorem dX8_takes_58 : decode cX8_takes 58 = .ok (.getfield 12, 3) := dk_180 0 12 (dk_at dksX8_takes_2 16 rfl rfl)
theorem dX8_takes_61 : decode cX8_takes 61 = .ok (.iload_n 2, 1) := dk_28 (dk_at dksX8_takes_2 19 rfl rfl)
theorem dX8_takes_62 : decode cX8_takes 62 = .ok (.aload_n 1, 1) := dk_43 (dk_at dksX8_takes_2 20 rfl rfl)
theorem dX8_takes_63 : decode cX8_takes 63 = .ok (.invokevirtual 124, 3) := dk_182 0 124 (dk_at dksX8_takes_2 21 rfl rfl)
theorem dX8_takes_66 : decode cX8_takes 66 = .ok (.return_, 1) := dk_177 (dk_at dksX8_takes_3 0 rfl rfl)
abbrev cX8_mays : ByteArray := prog_15_method_5_code
def yX8_mays : MethodName := ⟨RX8, "mays", "()Ljava/util/PriorityQueue;"⟩
def dkwX8_mays_3 : List UInt8 := [43, 25, 4, 182, 0, 118, 87, 28, 21, 5, 128, 61, 167, 255, 197, 43, 176]
abbrev dktX8_mays_3 : List UInt8 := dkwX8_mays_3 ++ []
def dkwX8_mays_2 : List UInt8 := [180, 0, 106, 180, 0, 110, 120, 54, 5, 25, 4, 180, 0, 115, 154, 0, 17, 28, 21, 5, 126, 154, 0, 10]
abbrev dktX8_mays_2 : List UInt8 := dkwX8_mays_2 ++ dktX8_mays_3
def dkwX8_mays_1 : List UInt8 := [45, 185, 0, 59, 1, 0, 153, 0, 56, 45, 185, 0, 65, 1, 0, 192, 0, 69, 58, 4, 4, 25, 4]
abbrev dktX8_mays_1 : List UInt8 := dkwX8_mays_1 ++ dktX8_mays_2
def dkwX8_mays_0 : List UInt8 := [187, 0, 101, 89, 16, 20, 42, 180, 0, 21, 183, 0, 103, 76, 3, 61, 42, 180, 0, 12, 182, 0, 55, 78]
abbrev dktX8_mays_0 : List UInt8 := dkwX8_mays_0 ++ dktX8_mays_1
theorem dksX8_mays_0 : cX8_mays.data.toList.drop 0 = dktX8_mays_0 := by decide +kernel
theorem dksX8_mays_1 : cX8_mays.data.toList.drop 24 = dktX8_mays_1 := dk_seg dksX8_mays_0 24 rfl rfl
theorem dksX8_mays_2 : cX8_mays.data.toList.drop 47 = dktX8_mays_2 := dk_seg dksX8_mays_1 23 rfl rfl
theorem dksX8_mays_3 : cX8_mays.data.toList.drop 71 = dktX8_mays_3 := dk_seg dksX8_mays_2 24 rfl rfl
theorem dX8_mays_0 : decode cX8_mays 0 = .ok (.new 101, 3) := dk_187 0 101 (dk_at dksX8_mays_0 0 rfl rfl)
theorem dX8_mays_3 : decode cX8_mays 3 = .ok (.dup, 1) := dk_89 (dk_at dksX8_mays_0 3 rfl rfl)
theorem dX8_mays_4 : decode cX8_mays 4 = .ok (.bipush 20, 2) := dk_16 20 (dk_at dksX8_mays_0 4 rfl rfl)
theorem dX8_mays_6 : decode cX8_mays 6 = .ok (.aload_n 0, 1) := dk_42 (dk_at dksX8_mays_0 6 rfl rfl)
theorem dX8_mays_7 : decode cX8_mays 7 = .ok (.getfield 21, 3) := dk_180 0 21 (dk_at dksX8_mays_0 7 rfl rfl)
theorem dX8_mays_10 : decode cX8_mays 10 = .ok (.invokespecial 103, 3) := dk_183 0 103 (dk_at dksX8_mays_0 10 rfl rfl)
theorem dX8_mays_13 : decode cX8_mays 13 = .ok (.astore_n 1, 1) := dk_76 (dk_at dksX8_mays_0 13 rfl rfl)
theorem dX8_mays_14 : decode cX8_mays 14 = .ok (.iconst 0, 1) := dk_3 (dk_at dksX8_mays_0 14 rfl rfl)
theorem dX8_mays_15 : decode cX8_mays 15 = .ok (.istore_n 2, 1) := dk_61 (dk_at dksX8_mays_0 15 rfl rfl)
theorem dX8_mays_16 : decode cX8_mays 16 = .ok (.aload_n 0, 1) := dk_42 (dk_at dksX8_mays_0 16 rfl rfl)
theorem dX8_mays_17 : decode cX8_mays 17 = .ok (.getfield 12, 3) := dk_180 0 12 (dk_at dksX8_mays_0 17 rfl rfl)
theorem dX8_mays_20 : decode cX8_mays 20 = .ok (.invokevirtual 55, 3) := dk_182 0 55 (dk_at dksX8_mays_0 20 rfl rfl)
theorem dX8_mays_23 : decode cX8_mays 23 = .ok (.astore_n 3, 1) := dk_78 (dk_at dksX8_mays_0 23 rfl rfl)
theorem dX8_mays_24 : decode cX8_mays 24 = .ok (.aload_n 3, 1) := dk_45 (dk_at dksX8_mays_1 0 rfl rfl)
theorem dX8_mays_25 : decode cX8_mays 25 = .ok (.invokeinterface 59 1, 5) := by decide +kernel
theorem dX8_mays_30 : decode cX8_mays 30 = .ok (.ifCond .eq 56, 3) := dk_153 0 56 (dk_at dksX8_mays_1 6 rfl rfl)
theorem dX8_mays_33 : decode cX8_mays 33 = .ok (.aload_n 3, 1) := dk_45 (dk_at dksX8_mays_1 9 rfl rfl)
theorem dX8_mays_34 : decode cX8_mays 34 = .ok (.invokeinterface 65 1, 5) := by decide +kernel
theorem dX8_mays_39 : decode cX8_mays 39 = .ok (.checkcast 69, 3) := dk_192 0 69 (dk_at dksX8_mays_1 15 rfl rfl)
theorem dX8_mays_42 : decode cX8_mays 42 = .ok (.astore 4, 2) := dk_58 4 (dk_at dksX8_mays_1 18 rfl rfl)
theorem dX8_mays_44 : decode cX8_mays 44 = .ok (.iconst 1, 1) := dk_4 (dk_at dksX8_mays_1 20 rfl rfl)
theorem dX8_mays_45 : decode cX8_mays 45 = .ok (.aload 4, 2) := dk_25 4 (dk_at dksX8_mays_1 21 rfl rfl)
theorem dX8_mays_47 : decode cX8_mays 47 = .ok (.getfield 106, 3) := dk_180 0 106 (dk_at dksX8_mays_2 0 rfl rfl)
theorem dX8_mays_50 : decode cX8_mays 50 = .ok (.getfield 110, 3) := dk_180 0 110 (dk_at dksX8_mays_2 3 rfl rfl)
theorem dX8_mays_53 : decode cX8_mays 53 = .ok (.ishl, 1) := dk_120 (dk_at dksX8_mays_2 6 rfl rfl)
theorem dX8_mays_54 : decode cX8_mays 54 = .ok (.istore 5, 2) := dk_54 5 (dk_at dksX8_mays_2 7 rfl rfl)
theorem dX8_mays_56 : decode cX8_mays 56 = .ok (.aload 4, 2) := dk_25 4 (dk_at dksX8_mays_2 9 rfl rfl)
theorem dX8_mays_58 : decode cX8_mays 58 = .ok (.getfield 115, 3) := dk_180 0 115 (dk_at dksX8_mays_2 11 rfl rfl)
theorem dX8_mays_61 : decode cX8_mays 61 = .ok (.ifCond .ne 17, 3) := dk_154 0 17 (dk_at dksX8_mays_2 14 rfl rfl)
theorem dX8_mays_64 : decode cX8_mays 64 = .ok (.iload_n 2, 1) := dk_28 (dk_at dksX8_mays_2 17 rfl rfl)
theorem dX8_mays_65 : decode cX8_mays 65 = .ok (.iload 5, 2) := dk_21 5 (dk_at dksX8_mays_2 18 rfl rfl)
theorem dX8_mays_67 : decode cX8_mays 67 = .ok (.iand, 1) := dk_126 (dk_at dksX8_mays_2 20 rfl rfl)
theorem dX8_mays_68 : decode cX8_mays 68 = .ok (.ifCond .ne 10, 3) := dk_154 0 10 (dk_at dksX8_mays_2 21 rfl rfl)
theorem dX8_mays_71 : decode cX8_mays 71 = .ok (.aload_n 1, 1) := dk_43 (dk_at dksX8_mays_3 0 rfl rfl)
theorem dX8_mays_72 : decode cX8_mays 72 = .ok (.aload 4, 2) := dk_25 4 (dk_at dksX8_mays_3 1 rfl rfl)
theorem dX8_mays_74 : decode cX8_mays 74 = .ok (.invokevirtual 118, 3) := dk_182 0 118 (dk_at dksX8_mays_3 3 rfl rfl)
theorem dX8_mays_77 : decode cX8_mays 77 = .ok (.pop, 1) := dk_87 (dk_at dksX8_mays_3 6 rfl rfl)
theorem dX8_mays_78 : decode cX8_mays 78 = .ok (.iload_n 2, 1) := dk_28 (dk_at dksX8_mays_3 7 rfl rfl)
theorem dX8_mays_79 : decode cX8_mays 79 = .ok (.iload 5, 2) := dk_21 5 (dk_at dksX8_mays_3 8 rfl rfl)
theorem dX8_mays_81 : decode cX8_mays 81 = .ok (.ior, 1) := dk_128 (dk_at dksX8_mays_3 10 rfl rfl)
theorem dX8_mays_82 : decode cX8_mays 82 = .ok (.istore_n 2, 1) := dk_61 (dk_at dksX8_mays_3 11 rfl rfl)
theorem dX8_mays_83 : decode cX8_mays 83 = .ok (.goto (-59), 3) := dk_167 255 197 (dk_at dksX8_mays_3 12 rfl rfl)
theorem dX8_mays_86 : decode cX8_mays 86 = .ok (.aload_n 1, 1) := dk_43 (dk_at dksX8_mays_3 15 rfl rfl)
theorem dX8_mays_87 : decode cX8_mays 87 = .ok (.areturn, 1) := dk_176 (dk_at dksX8_mays_3 16 rfl rfl)
abbrev cX8_get : ByteArray := prog_15_method_4_code
def yX8_get : MethodName := ⟨RX8, "get", "(ILCreditBroker$Which;)LCreditBroker$Letter;"⟩
def dkwX8_get_2 : List UInt8 := [21, 4, 182, 0, 91, 192, 0, 69, 176, 132, 3, 1, 132, 4, 1, 167, 255, 199, 1, 176]
abbrev dktX8_get_2 : List UInt8 := dkwX8_get_2 ++ []
def dkwX8_get_1 : List UInt8 := [182, 0, 91, 192, 0, 69, 185, 0, 95, 2, 0, 153, 0, 24, 29, 27, 160, 0, 16, 42, 180, 0, 12]
abbrev dktX8_get_1 : List UInt8 := dkwX8_get_1 ++ dktX8_get_2
def dkwX8_get_0 : List UInt8 := [3, 62, 3, 54, 4, 21, 4, 42, 180, 0, 12, 182, 0, 87, 162, 0, 51, 44, 42, 180, 0, 12, 21, 4]
abbrev dktX8_get_0 : List UInt8 := dkwX8_get_0 ++ dktX8_get_1
theorem dksX8_get_0 : cX8_get.data.toList.drop 0 = dktX8_get_0 := by decide +kernel
theorem dksX8_get_1 : cX8_get.data.toList.drop 24 = dktX8_get_1 := dk_seg dksX8_get_0 24 rfl rfl
theorem dksX8_get_2 : cX8_get.data.toList.drop 47 = dktX8_get_2 := dk_seg dksX8_get_1 23 rfl rfl
theorem dX8_get_0 : decode cX8_get 0 = .ok (.iconst 0, 1) := dk_3 (dk_at dksX8_get_0 0 rfl rfl)
theorem dX8_get_1 : decode cX8_get 1 = .ok (.istore_n 3, 1) := dk_62 (dk_at dksX8_get_0 1 rfl rfl)
theorem dX8_get_2 : decode cX8_get 2 = .ok (.iconst 0, 1) := dk_3 (dk_at dksX8_get_0 2 rfl rfl)
theorem dX8_get_3 : decode cX8_get 3 = .ok (.istore 4, 2) := dk_54 4 (dk_at dksX8_get_0 3 rfl rfl)
theorem dX8_get_5 : decode cX8_get 5 = .ok (.iload 4, 2) := dk_21 4 (dk_at dksX8_get_0 5 rfl rfl)
theorem dX8_get_7 : decode cX8_get 7 = .ok (.aload_n 0, 1) := dk_42 (dk_at dksX8_get_0 7 rfl rfl)
theorem dX8_get_8 : decode cX8_get 8 = .ok (.getfield 12, 3) := dk_180 0 12 (dk_at dksX8_get_0 8 rfl rfl)
theorem dX8_get_11 : decode cX8_get 11 = .ok (.invokevirtual 87, 3) := dk_182 0 87 (dk_at dksX8_get_0 11 rfl rfl)
theorem dX8_get_14 : decode cX8_get 14 = .ok (.if_icmp .ge 51, 3) := dk_162 0 51 (dk_at dksX8_get_0 14 rfl rfl)
theorem dX8_get_17 : decode cX8_get 17 = .ok (.aload_n 2, 1) := dk_44 (dk_at dksX8_get_0 17 rfl rfl)
theorem dX8_get_18 : decode cX8_get 18 = .ok (.aload_n 0, 1) := dk_42 (dk_at dksX8_get_0 18 rfl rfl)
theorem dX8_get_19 : decode cX8_get 19 = .ok (.getfield 12, 3) := dk_180 0 12 (dk_at dksX8_get_0 19 rfl rfl)
theorem dX8_get_22 : decode cX8_get 22 = .ok (.iload 4, 2) := dk_21 4 (dk_at dksX8_get_0 22 rfl rfl)
theorem dX8_get_24 : decode cX8_get 24 = .ok (.invokevirtual 91, 3) := dk_182 0 91 (dk_at dksX8_get_1 0 rfl rfl)
theorem dX8_get_27 : decode cX8_get 27 = .ok (.checkcast 69, 3) := dk_192 0 69 (dk_at dksX8_get_1 3 rfl rfl)
theorem dX8_get_30 : decode cX8_get 30 = .ok (.invokeinterface 95 2, 5) := by decide +kernel
theorem dX8_get_35 : decode cX8_get 35 = .ok (.ifCond .eq 24, 3) := dk_153 0 24 (dk_at dksX8_get_1 11 rfl rfl)
theorem dX8_get_38 : decode cX8_get 38 = .ok (.iload_n 3, 1) := dk_29 (dk_at dksX8_get_1 14 rfl rfl)
theorem dX8_get_39 : decode cX8_get 39 = .ok (.iload_n 1, 1) := dk_27 (dk_at dksX8_get_1 15 rfl rfl)
theorem dX8_get_40 : decode cX8_get 40 = .ok (.if_icmp .ne 16, 3) := dk_160 0 16 (dk_at dksX8_get_1 16 rfl rfl)
theorem dX8_get_43 : decode cX8_get 43 = .ok (.aload_n 0, 1) := dk_42 (dk_at dksX8_get_1 19 rfl rfl)
theorem dX8_get_44 : decode cX8_get 44 = .ok (.getfield 12, 3) := dk_180 0 12 (dk_at dksX8_get_1 20 rfl rfl)
theorem dX8_get_47 : decode cX8_get 47 = .ok (.iload 4, 2) := dk_21 4 (dk_at dksX8_get_2 0 rfl rfl)
theorem dX8_get_49 : decode cX8_get 49 = .ok (.invokevirtual 91, 3) := dk_182 0 91 (dk_at dksX8_get_2 2 rfl rfl)
theorem dX8_get_52 : decode cX8_get 52 = .ok (.checkcast 69, 3) := dk_192 0 69 (dk_at dksX8_get_2 5 rfl rfl)
theorem dX8_get_55 : decode cX8_get 55 = .ok (.areturn, 1) := dk_176 (dk_at dksX8_get_2 8 rfl rfl)
theorem dX8_get_56 : decode cX8_get 56 = .ok (.iinc 3 1, 3) := dk_132 3 1 (dk_at dksX8_get_2 9 rfl rfl)
theorem dX8_get_59 : decode cX8_get 59 = .ok (.iinc 4 1, 3) := dk_132 4 1 (dk_at dksX8_get_2 12 rfl rfl)
theorem dX8_get_62 : decode cX8_get 62 = .ok (.goto (-57), 3) := dk_167 255 199 (dk_at dksX8_get_2 15 rfl rfl)
theorem dX8_get_65 : decode cX8_get 65 = .ok (.aconst_null, 1) := dk_1 (dk_at dksX8_get_2 18 rfl rfl)
theorem dX8_get_66 : decode cX8_get 66 = .ok (.areturn, 1) := dk_176 (dk_at dksX8_get_2 19 rfl rfl)
abbrev cX8_keys : ByteArray := prog_15_method_7_code
def yX8_keys : MethodName := ⟨RX8, "keys", "(LCreditBroker$Which;)I"⟩
def dkwX8_keys_2 : List UInt8 := [192, 0, 69, 180, 0, 106, 180, 0, 110, 120, 167, 0, 4, 3, 128, 61, 132, 3, 1, 167, 255, 196, 28, 172]
abbrev dktX8_keys_2 : List UInt8 := dkwX8_keys_2 ++ []
def dkwX8_keys_1 : List UInt8 := [182, 0, 91, 192, 0, 69, 185, 0, 95, 2, 0, 153, 0, 25, 4, 42, 180, 0, 12, 29, 182, 0, 91]
abbrev dktX8_keys_1 : List UInt8 := dkwX8_keys_1 ++ dktX8_keys_2
def dkwX8_keys_0 : List UInt8 := [3, 61, 3, 62, 29, 42, 180, 0, 12, 182, 0, 87, 162, 0, 55, 28, 43, 42, 180, 0, 12, 29]
abbrev dktX8_keys_0 : List UInt8 := dkwX8_keys_0 ++ dktX8_keys_1
theorem dksX8_keys_0 : cX8_keys.data.toList.drop 0 = dktX8_keys_0 := by decide +kernel
theorem dksX8_keys_1 : cX8_keys.data.toList.drop 22 = dktX8_keys_1 := dk_seg dksX8_keys_0 22 rfl rfl
theorem dksX8_keys_2 : cX8_keys.data.toList.drop 45 = dktX8_keys_2 := dk_seg dksX8_keys_1 23 rfl rfl
theorem dX8_keys_0 : decode cX8_keys 0 = .ok (.iconst 0, 1) := dk_3 (dk_at dksX8_keys_0 0 rfl rfl)
theorem dX8_keys_1 : decode cX8_keys 1 = .ok (.istore_n 2, 1) := dk_61 (dk_at dksX8_keys_0 1 rfl rfl)
theorem dX8_keys_2 : decode cX8_keys 2 = .ok (.iconst 0, 1) := dk_3 (dk_at dksX8_keys_0 2 rfl rfl)
theorem dX8_keys_3 : decode cX8_keys 3 = .ok (.istore_n 3, 1) := dk_62 (dk_at dksX8_keys_0 3 rfl rfl)
theorem dX8_keys_4 : decode cX8_keys 4 = .ok (.iload_n 3, 1) := dk_29 (dk_at dksX8_keys_0 4 rfl rfl)
theorem dX8_keys_5 : decode cX8_keys 5 = .ok (.aload_n 0, 1) := dk_42 (dk_at dksX8_keys_0 5 rfl rfl)
theorem dX8_keys_6 : decode cX8_keys 6 = .ok (.getfield 12, 3) := dk_180 0 12 (dk_at dksX8_keys_0 6 rfl rfl)
theorem dX8_keys_9 : decode cX8_keys 9 = .ok (.invokevirtual 87, 3) := dk_182 0 87 (dk_at dksX8_keys_0 9 rfl rfl)
theorem dX8_keys_12 : decode cX8_keys 12 = .ok (.if_icmp .ge 55, 3) := dk_162 0 55 (dk_at dksX8_keys_0 12 rfl rfl)
theorem dX8_keys_15 : decode cX8_keys 15 = .ok (.iload_n 2, 1) := dk_28 (dk_at dksX8_keys_0 15 rfl rfl)
theorem dX8_keys_16 : decode cX8_keys 16 = .ok (.aload_n 1, 1) := dk_43 (dk_at dksX8_keys_0 16 rfl rfl)
theorem dX8_keys_17 : decode cX8_keys 17 = .ok (.aload_n 0, 1) := dk_42 (dk_at dksX8_keys_0 17 rfl rfl)
theorem dX8_keys_18 : decode cX8_keys 18 = .ok (.getfield 12, 3) := dk_180 0 12 (dk_at dksX8_keys_0 18 rfl rfl)
theorem dX8_keys_21 : decode cX8_keys 21 = .ok (.iload_n 3, 1) := dk_29 (dk_at dksX8_keys_0 21 rfl rfl)
theorem dX8_keys_22 : decode cX8_keys 22 = .ok (.invokevirtual 91, 3) := dk_182 0 91 (dk_at dksX8_keys_1 0 rfl rfl)
theorem dX8_keys_25 : decode cX8_keys 25 = .ok (.checkcast 69, 3) := dk_192 0 69 (dk_at dksX8_keys_1 3 rfl rfl)
theorem dX8_keys_28 : decode cX8_keys 28 = .ok (.invokeinterface 95 2, 5) := by decide +kernel
theorem dX8_keys_33 : decode cX8_keys 33 = .ok (.ifCond .eq 25, 3) := dk_153 0 25 (dk_at dksX8_keys_1 11 rfl rfl)
theorem dX8_keys_36 : decode cX8_keys 36 = .ok (.iconst 1, 1) := dk_4 (dk_at dksX8_keys_1 14 rfl rfl)
theorem dX8_keys_37 : decode cX8_keys 37 = .ok (.aload_n 0, 1) := dk_42 (dk_at dksX8_keys_1 15 rfl rfl)
theorem dX8_keys_38 : decode cX8_keys 38 = .ok (.getfield 12, 3) := dk_180 0 12 (dk_at dksX8_keys_1 16 rfl rfl)
theorem dX8_keys_41 : decode cX8_keys 41 = .ok (.iload_n 3, 1) := dk_29 (dk_at dksX8_keys_1 19 rfl rfl)
theorem dX8_keys_42 : decode cX8_keys 42 = .ok (.invokevirtual 91, 3) := dk_182 0 91 (dk_at dksX8_keys_1 20 rfl rfl)
theorem dX8_keys_45 : decode cX8_keys 45 = .ok (.checkcast 69, 3) := dk_192 0 69 (dk_at dksX8_keys_2 0 rfl rfl)
theorem dX8_keys_48 : decode cX8_keys 48 = .ok (.getfield 106, 3) := dk_180 0 106 (dk_at dksX8_keys_2 3 rfl rfl)
theorem dX8_keys_51 : decode cX8_keys 51 = .ok (.getfield 110, 3) := dk_180 0 110 (dk_at dksX8_keys_2 6 rfl rfl)
theorem dX8_keys_54 : decode cX8_keys 54 = .ok (.ishl, 1) := dk_120 (dk_at dksX8_keys_2 9 rfl rfl)
theorem dX8_keys_55 : decode cX8_keys 55 = .ok (.goto 4, 3) := dk_167 0 4 (dk_at dksX8_keys_2 10 rfl rfl)
theorem dX8_keys_58 : decode cX8_keys 58 = .ok (.iconst 0, 1) := dk_3 (dk_at dksX8_keys_2 13 rfl rfl)
theorem dX8_keys_59 : decode cX8_keys 59 = .ok (.ior, 1) := dk_128 (dk_at dksX8_keys_2 14 rfl rfl)
theorem dX8_keys_60 : decode cX8_keys 60 = .ok (.istore_n 2, 1) := dk_61 (dk_at dksX8_keys_2 15 rfl rfl)
theorem dX8_keys_61 : decode cX8_keys 61 = .ok (.iinc 3 1, 3) := dk_132 3 1 (dk_at dksX8_keys_2 16 rfl rfl)
theorem dX8_keys_64 : decode cX8_keys 64 = .ok (.goto (-60), 3) := dk_167 255 196 (dk_at dksX8_keys_2 19 rfl rfl)
theorem dX8_keys_67 : decode cX8_keys 67 = .ok (.iload_n 2, 1) := dk_28 (dk_at dksX8_keys_2 22 rfl rfl)
theorem dX8_keys_68 : decode cX8_keys 68 = .ok (.ireturn, 1) := dk_172 (dk_at dksX8_keys_2 23 rfl rfl)
abbrev cX8_drained : ByteArray := prog_15_method_10_code
def yX8_drained : MethodName := ⟨RX8, "drained", "()Ljava/util/ArrayDeque;"⟩
def dkwX8_drained_2 : List UInt8 := [182, 0, 146, 87, 43, 182, 0, 133, 78, 167, 255, 224, 44, 176]
abbrev dktX8_drained_2 : List UInt8 := dkwX8_drained_2 ++ []
def dkwX8_drained_1 : List UInt8 := [198, 0, 34, 44, 45, 180, 0, 106, 180, 0, 123, 184, 0, 136, 182, 0, 142, 43, 180, 0, 12, 45]
abbrev dktX8_drained_1 : List UInt8 := dkwX8_drained_1 ++ dktX8_drained_2
def dkwX8_drained_0 : List UInt8 := [187, 0, 13, 89, 42, 183, 0, 127, 76, 187, 0, 130, 89, 183, 0, 132, 77, 43, 182, 0, 133, 78, 45]
abbrev dktX8_drained_0 : List UInt8 := dkwX8_drained_0 ++ dktX8_drained_1
theorem dksX8_drained_0 : cX8_drained.data.toList.drop 0 = dktX8_drained_0 := by decide +kernel
theorem dksX8_drained_1 : cX8_drained.data.toList.drop 23 = dktX8_drained_1 := dk_seg dksX8_drained_0 23 rfl rfl
theorem dksX8_drained_2 : cX8_drained.data.toList.drop 45 = dktX8_drained_2 := dk_seg dksX8_drained_1 22 rfl rfl
theorem dX8_drained_0 : decode cX8_drained 0 = .ok (.new 13, 3) := dk_187 0 13 (dk_at dksX8_drained_0 0 rfl rfl)
theorem dX8_drained_3 : decode cX8_drained 3 = .ok (.dup, 1) := dk_89 (dk_at dksX8_drained_0 3 rfl rfl)
theorem dX8_drained_4 : decode cX8_drained 4 = .ok (.aload_n 0, 1) := dk_42 (dk_at dksX8_drained_0 4 rfl rfl)
theorem dX8_drained_5 : decode cX8_drained 5 = .ok (.invokespecial 127, 3) := dk_183 0 127 (dk_at dksX8_drained_0 5 rfl rfl)
theorem dX8_drained_8 : decode cX8_drained 8 = .ok (.astore_n 1, 1) := dk_76 (dk_at dksX8_drained_0 8 rfl rfl)
theorem dX8_drained_9 : decode cX8_drained 9 = .ok (.new 130, 3) := dk_187 0 130 (dk_at dksX8_drained_0 9 rfl rfl)
theorem dX8_drained_12 : decode cX8_drained 12 = .ok (.dup, 1) := dk_89 (dk_at dksX8_drained_0 12 rfl rfl)
theorem dX8_drained_13 : decode cX8_drained 13 = .ok (.invokespecial 132, 3) := dk_183 0 132 (dk_at dksX8_drained_0 13 rfl rfl)
theorem dX8_drained_16 : decode cX8_drained 16 = .ok (.astore_n 2, 1) := dk_77 (dk_at dksX8_drained_0 16 rfl rfl)
theorem dX8_drained_17 : decode cX8_drained 17 = .ok (.aload_n 1, 1) := dk_43 (dk_at dksX8_drained_0 17 rfl rfl)
theorem dX8_drained_18 : decode cX8_drained 18 = .ok (.invokevirtual 133, 3) := dk_182 0 133 (dk_at dksX8_drained_0 18 rfl rfl)
theorem dX8_drained_21 : decode cX8_drained 21 = .ok (.astore_n 3, 1) := dk_78 (dk_at dksX8_drained_0 21 rfl rfl)
theorem dX8_drained_22 : decode cX8_drained 22 = .ok (.aload_n 3, 1) := dk_45 (dk_at dksX8_drained_0 22 rfl rfl)
theorem dX8_drained_23 : decode cX8_drained 23 = .ok (.ifnull 34, 3) := dk_198 0 34 (dk_at dksX8_drained_1 0 rfl rfl)
theorem dX8_drained_26 : decode cX8_drained 26 = .ok (.aload_n 2, 1) := dk_44 (dk_at dksX8_drained_1 3 rfl rfl)
theorem dX8_drained_27 : decode cX8_drained 27 = .ok (.aload_n 3, 1) := dk_45 (dk_at dksX8_drained_1 4 rfl rfl)
theorem dX8_drained_28 : decode cX8_drained 28 = .ok (.getfield 106, 3) := dk_180 0 106 (dk_at dksX8_drained_1 5 rfl rfl)
theorem dX8_drained_31 : decode cX8_drained 31 = .ok (.getfield 123, 3) := dk_180 0 123 (dk_at dksX8_drained_1 8 rfl rfl)
theorem dX8_drained_34 : decode cX8_drained 34 = .ok (.invokestatic 136, 3) := dk_184 0 136 (dk_at dksX8_drained_1 11 rfl rfl)
theorem dX8_drained_37 : decode cX8_drained 37 = .ok (.invokevirtual 142, 3) := dk_182 0 142 (dk_at dksX8_drained_1 14 rfl rfl)
theorem dX8_drained_40 : decode cX8_drained 40 = .ok (.aload_n 1, 1) := dk_43 (dk_at dksX8_drained_1 17 rfl rfl)
theorem dX8_drained_41 : decode cX8_drained 41 = .ok (.getfield 12, 3) := dk_180 0 12 (dk_at dksX8_drained_1 18 rfl rfl)
theorem dX8_drained_44 : decode cX8_drained 44 = .ok (.aload_n 3, 1) := dk_45 (dk_at dksX8_drained_1 21 rfl rfl)
theorem dX8_drained_45 : decode cX8_drained 45 = .ok (.invokevirtual 146, 3) := dk_182 0 146 (dk_at dksX8_drained_2 0 rfl rfl)
theorem dX8_drained_48 : decode cX8_drained 48 = .ok (.pop, 1) := dk_87 (dk_at dksX8_drained_2 3 rfl rfl)
theorem dX8_drained_49 : decode cX8_drained 49 = .ok (.aload_n 1, 1) := dk_43 (dk_at dksX8_drained_2 4 rfl rfl)
theorem dX8_drained_50 : decode cX8_drained 50 = .ok (.invokevirtual 133, 3) := dk_182 0 133 (dk_at dksX8_drained_2 5 rfl rfl)
theorem dX8_drained_53 : decode cX8_drained 53 = .ok (.astore_n 3, 1) := dk_78 (dk_at dksX8_drained_2 8 rfl rfl)
theorem dX8_drained_54 : decode cX8_drained 54 = .ok (.goto (-32), 3) := dk_167 255 224 (dk_at dksX8_drained_2 9 rfl rfl)
theorem dX8_drained_57 : decode cX8_drained 57 = .ok (.aload_n 2, 1) := dk_44 (dk_at dksX8_drained_2 12 rfl rfl)
theorem dX8_drained_58 : decode cX8_drained 58 = .ok (.areturn, 1) := dk_176 (dk_at dksX8_drained_2 13 rfl rfl)
abbrev cX8_init_2 : ByteArray := prog_15_method_2_code
def yX8_init_2 : MethodName := ⟨RX8, "<init>", "(LCreditBroker$Queue;)V"⟩
def dkwX8_init_2_5 : List UInt8 := [180, 0, 81, 181, 0, 81, 42, 43, 180, 0, 84, 181, 0, 84, 177]
abbrev dktX8_init_2_5 : List UInt8 := dkwX8_init_2_5 ++ []
def dkwX8_init_2_4 : List UInt8 := [87, 167, 255, 221, 42, 43, 180, 0, 25, 181, 0, 25, 42, 43, 180, 0, 78, 181, 0, 78, 42, 43]
abbrev dktX8_init_2_4 : List UInt8 := dkwX8_init_2_4 ++ dktX8_init_2_5
def dkwX8_init_2_3 : List UInt8 := [185, 0, 65, 1, 0, 192, 0, 69, 78, 42, 180, 0, 12, 187, 0, 69, 89, 45, 183, 0, 71, 182, 0, 74]
abbrev dktX8_init_2_3 : List UInt8 := dkwX8_init_2_3 ++ dktX8_init_2_4
def dkwX8_init_2_2 : List UInt8 := [180, 0, 51, 181, 0, 51, 43, 180, 0, 12, 182, 0, 55, 77, 44, 185, 0, 59, 1, 0, 153, 0, 32, 44]
abbrev dktX8_init_2_2 : List UInt8 := dkwX8_init_2_2 ++ dktX8_init_2_3
def dkwX8_init_2_1 : List UInt8 := [180, 0, 39, 79, 89, 5, 43, 180, 0, 42, 79, 89, 6, 43, 180, 0, 45, 79, 183, 0, 48, 42, 43]
abbrev dktX8_init_2_1 : List UInt8 := dkwX8_init_2_1 ++ dktX8_init_2_2
def dkwX8_init_2_0 : List UInt8 := [42, 43, 180, 0, 29, 43, 180, 0, 32, 7, 188, 10, 89, 3, 43, 180, 0, 36, 79, 89, 4, 43]
abbrev dktX8_init_2_0 : List UInt8 := dkwX8_init_2_0 ++ dktX8_init_2_1
theorem dksX8_init_2_0 : cX8_init_2.data.toList.drop 0 = dktX8_init_2_0 := by decide +kernel
theorem dksX8_init_2_1 : cX8_init_2.data.toList.drop 22 = dktX8_init_2_1 := dk_seg dksX8_init_2_0 22 rfl rfl
theorem dksX8_init_2_2 : cX8_init_2.data.toList.drop 45 = dktX8_init_2_2 := dk_seg dksX8_init_2_1 23 rfl rfl
theorem dksX8_init_2_3 : cX8_init_2.data.toList.drop 69 = dktX8_init_2_3 := dk_seg dksX8_init_2_2 24 rfl rfl
theorem dksX8_init_2_4 : cX8_init_2.data.toList.drop 93 = dktX8_init_2_4 := dk_seg dksX8_init_2_3 24 rfl rfl
theorem dksX8_init_2_5 : cX8_init_2.data.toList.drop 115 = dktX8_init_2_5 := dk_seg dksX8_init_2_4 22 rfl rfl
theorem dX8_init_2_0 : decode cX8_init_2 0 = .ok (.aload_n 0, 1) := dk_42 (dk_at dksX8_init_2_0 0 rfl rfl)
theorem dX8_init_2_1 : decode cX8_init_2 1 = .ok (.aload_n 1, 1) := dk_43 (dk_at dksX8_init_2_0 1 rfl rfl)
theorem dX8_init_2_2 : decode cX8_init_2 2 = .ok (.getfield 29, 3) := dk_180 0 29 (dk_at dksX8_init_2_0 2 rfl rfl)
theorem dX8_init_2_5 : decode cX8_init_2 5 = .ok (.aload_n 1, 1) := dk_43 (dk_at dksX8_init_2_0 5 rfl rfl)
theorem dX8_init_2_6 : decode cX8_init_2 6 = .ok (.getfield 32, 3) := dk_180 0 32 (dk_at dksX8_init_2_0 6 rfl rfl)
theorem dX8_init_2_9 : decode cX8_init_2 9 = .ok (.iconst 4, 1) := dk_7 (dk_at dksX8_init_2_0 9 rfl rfl)
theorem dX8_init_2_10 : decode cX8_init_2 10 = .ok (.newarray .int, 2) := dk_188_10 (dk_at dksX8_init_2_0 10 rfl rfl)
theorem dX8_init_2_12 : decode cX8_init_2 12 = .ok (.dup, 1) := dk_89 (dk_at dksX8_init_2_0 12 rfl rfl)
theorem dX8_init_2_13 : decode cX8_init_2 13 = .ok (.iconst 0, 1) := dk_3 (dk_at dksX8_init_2_0 13 rfl rfl)
theorem dX8_init_2_14 : decode cX8_init_2 14 = .ok (.aload_n 1, 1) := dk_43 (dk_at dksX8_init_2_0 14 rfl rfl)
theorem dX8_init_2_15 : decode cX8_init_2 15 = .ok (.getfield 36, 3) := dk_180 0 36 (dk_at dksX8_init_2_0 15 rfl rfl)
theorem dX8_init_2_18 : decode cX8_init_2 18 = .ok (.iastore, 1) := dk_79 (dk_at dksX8_init_2_0 18 rfl rfl)
theorem dX8_init_2_19 : decode cX8_init_2 19 = .ok (.dup, 1) := dk_89 (dk_at dksX8_init_2_0 19 rfl rfl)
theorem dX8_init_2_20 : decode cX8_init_2 20 = .ok (.iconst 1, 1) := dk_4 (dk_at dksX8_init_2_0 20 rfl rfl)
theorem dX8_init_2_21 : decode cX8_init_2 21 = .ok (.aload_n 1, 1) := dk_43 (dk_at dksX8_init_2_0 21 rfl rfl)
theorem dX8_init_2_22 : decode cX8_init_2 22 = .ok (.getfield 39, 3) := dk_180 0 39 (dk_at dksX8_init_2_1 0 rfl rfl)
theorem dX8_init_2_25 : decode cX8_init_2 25 = .ok (.iastore, 1) := dk_79 (dk_at dksX8_init_2_1 3 rfl rfl)
theorem dX8_init_2_26 : decode cX8_init_2 26 = .ok (.dup, 1) := dk_89 (dk_at dksX8_init_2_1 4 rfl rfl)
theorem dX8_init_2_27 : decode cX8_init_2 27 = .ok (.iconst 2, 1) := dk_5 (dk_at dksX8_init_2_1 5 rfl rfl)
theorem dX8_init_2_28 : decode cX8_init_2 28 = .ok (.aload_n 1, 1) := dk_43 (dk_at dksX8_init_2_1 6 rfl rfl)
theorem dX8_init_2_29 : decode cX8_init_2 29 = .ok (.getfield 42, 3) := dk_180 0 42 (dk_at dksX8_init_2_1 7 rfl rfl)
theorem dX8_init_2_32 : decode cX8_init_2 32 = .ok (.iastore, 1) := dk_79 (dk_at dksX8_init_2_1 10 rfl rfl)
theorem dX8_init_2_33 : decode cX8_init_2 33 = .ok (.dup, 1) := dk_89 (dk_at dksX8_init_2_1 11 rfl rfl)
theorem dX8_init_2_34 : decode cX8_init_2 34 = .ok (.iconst 3, 1) := dk_6 (dk_at dksX8_init_2_1 12 rfl rfl)
theorem dX8_init_2_35 : decode cX8_init_2 35 = .ok (.aload_n 1, 1) := dk_43 (dk_at dksX8_init_2_1 13 rfl rfl)
theorem dX8_init_2_36 : decode cX8_init_2 36 = .ok (.getfield 45, 3) := dk_180 0 45 (dk_at dksX8_init_2_1 14 rfl rfl)
theorem dX8_init_2_39 : decode cX8_init_2 39 = .ok (.iastore, 1) := dk_79 (dk_at dksX8_init_2_1 17 rfl rfl)
theorem dX8_init_2_40 : decode cX8_init_2 40 = .ok (.invokespecial 48, 3) := dk_183 0 48 (dk_at dksX8_init_2_1 18 rfl rfl)
theorem dX8_init_2_43 : decode cX8_init_2 43 = .ok (.aload_n 0, 1) := dk_42 (dk_at dksX8_init_2_1 21 rfl rfl)
theorem dX8_init_2_44 : decode cX8_init_2 44 = .ok (.aload_n 1, 1) := dk_43 (dk_at dksX8_init_2_1 22 rfl rfl)
theorem dX8_init_2_45 : decode cX8_init_2 45 = .ok (.getfield 51, 3) := dk_180 0 51 (dk_at dksX8_init_2_2 0 rfl rfl)
theorem dX8_init_2_48 : decode cX8_init_2 48 = .ok (.putfield 51, 3) := dk_181 0 51 (dk_at dksX8_init_2_2 3 rfl rfl)
theorem dX8_init_2_51 : decode cX8_init_2 51 = .ok (.aload_n 1, 1) := dk_43 (dk_at dksX8_init_2_2 6 rfl rfl)
theorem dX8_init_2_52 : decode cX8_init_2 52 = .ok (.getfield 12, 3) := dk_180 0 12 (dk_at dksX8_init_2_2 7 rfl rfl)
theorem dX8_init_2_55 : decode cX8_init_2 55 = .ok (.invokevirtual 55, 3) := dk_182 0 55 (dk_at dksX8_init_2_2 10 rfl rfl)
theorem dX8_init_2_58 : decode cX8_init_2 58 = .ok (.astore_n 2, 1) := dk_77 (dk_at dksX8_init_2_2 13 rfl rfl)
theorem dX8_init_2_59 : decode cX8_init_2 59 = .ok (.aload_n 2, 1) := dk_44 (dk_at dksX8_init_2_2 14 rfl rfl)
theorem dX8_init_2_60 : decode cX8_init_2 60 = .ok (.invokeinterface 59 1, 5) := by decide +kernel
theorem dX8_init_2_65 : decode cX8_init_2 65 = .ok (.ifCond .eq 32, 3) := dk_153 0 32 (dk_at dksX8_init_2_2 20 rfl rfl)
theorem dX8_init_2_68 : decode cX8_init_2 68 = .ok (.aload_n 2, 1) := dk_44 (dk_at dksX8_init_2_2 23 rfl rfl)
theorem dX8_init_2_69 : decode cX8_init_2 69 = .ok (.invokeinterface 65 1, 5) := by decide +kernel
theorem dX8_init_2_74 : decode cX8_init_2 74 = .ok (.checkcast 69, 3) := dk_192 0 69 (dk_at dksX8_init_2_3 5 rfl rfl)
theorem dX8_init_2_77 : decode cX8_init_2 77 = .ok (.astore_n 3, 1) := dk_78 (dk_at dksX8_init_2_3 8 rfl rfl)
theorem dX8_init_2_78 : decode cX8_init_2 78 = .ok (.aload_n 0, 1) := dk_42 (dk_at dksX8_init_2_3 9 rfl rfl)
theorem dX8_init_2_79 : decode cX8_init_2 79 = .ok (.getfield 12, 3) := dk_180 0 12 (dk_at dksX8_init_2_3 10 rfl rfl)
theorem dX8_init_2_82 : decode cX8_init_2 82 = .ok (.new 69, 3) := dk_187 0 69 (dk_at dksX8_init_2_3 13 rfl rfl)
theorem dX8_init_2_85 : decode cX8_init_2 85 = .ok (.dup, 1) := dk_89 (dk_at dksX8_init_2_3 16 rfl rfl)
theorem dX8_init_2_86 : decode cX8_init_2 86 = .ok (.aload_n 3, 1) := dk_45 (dk_at dksX8_init_2_3 17 rfl rfl)
theorem dX8_init_2_87 : decode cX8_init_2 87 = .ok (.invokespecial 71, 3) := dk_183 0 71 (dk_at dksX8_init_2_3 18 rfl rfl)
theorem dX8_init_2_90 : decode cX8_init_2 90 = .ok (.invokevirtual 74, 3) := dk_182 0 74 (dk_at dksX8_init_2_3 21 rfl rfl)
theorem dX8_init_2_93 : decode cX8_init_2 93 = .ok (.pop, 1) := dk_87 (dk_at dksX8_init_2_4 0 rfl rfl)
theorem dX8_init_2_94 : decode cX8_init_2 94 = .ok (.goto (-35), 3) := dk_167 255 221 (dk_at dksX8_init_2_4 1 rfl rfl)
theorem dX8_init_2_97 : decode cX8_init_2 97 = .ok (.aload_n 0, 1) := dk_42 (dk_at dksX8_init_2_4 4 rfl rfl)
theorem dX8_init_2_98 : decode cX8_init_2 98 = .ok (.aload_n 1, 1) := dk_43 (dk_at dksX8_init_2_4 5 rfl rfl)
theorem dX8_init_2_99 : decode cX8_init_2 99 = .ok (.getfield 25, 3) := dk_180 0 25 (dk_at dksX8_init_2_4 6 rfl rfl)
theorem dX8_init_2_102 : decode cX8_init_2 102 = .ok (.putfield 25, 3) := dk_181 0 25 (dk_at dksX8_init_2_4 9 rfl rfl)
theorem dX8_init_2_105 : decode cX8_init_2 105 = .ok (.aload_n 0, 1) := dk_42 (dk_at dksX8_init_2_4 12 rfl rfl)
theorem dX8_init_2_106 : decode cX8_init_2 106 = .ok (.aload_n 1, 1) := dk_43 (dk_at dksX8_init_2_4 13 rfl rfl)
theorem dX8_init_2_107 : decode cX8_init_2 107 = .ok (.getfield 78, 3) := dk_180 0 78 (dk_at dksX8_init_2_4 14 rfl rfl)
theorem dX8_init_2_110 : decode cX8_init_2 110 = .ok (.putfield 78, 3) := dk_181 0 78 (dk_at dksX8_init_2_4 17 rfl rfl)
theorem dX8_init_2_113 : decode cX8_init_2 113 = .ok (.aload_n 0, 1) := dk_42 (dk_at dksX8_init_2_4 20 rfl rfl)
theorem dX8_init_2_114 : decode cX8_init_2 114 = .ok (.aload_n 1, 1) := dk_43 (dk_at dksX8_init_2_4 21 rfl rfl)
theorem dX8_init_2_115 : decode cX8_init_2 115 = .ok (.getfield 81, 3) := dk_180 0 81 (dk_at dksX8_init_2_5 0 rfl rfl)
theorem dX8_init_2_118 : decode cX8_init_2 118 = .ok (.putfield 81, 3) := dk_181 0 81 (dk_at dksX8_init_2_5 3 rfl rfl)
theorem dX8_init_2_121 : decode cX8_init_2 121 = .ok (.aload_n 0, 1) := dk_42 (dk_at dksX8_init_2_5 6 rfl rfl)
theorem dX8_init_2_122 : decode cX8_init_2 122 = .ok (.aload_n 1, 1) := dk_43 (dk_at dksX8_init_2_5 7 rfl rfl)
theorem dX8_init_2_123 : decode cX8_init_2 123 = .ok (.getfield 84, 3) := dk_180 0 84 (dk_at dksX8_init_2_5 8 rfl rfl)
theorem dX8_init_2_126 : decode cX8_init_2 126 = .ok (.putfield 84, 3) := dk_181 0 84 (dk_at dksX8_init_2_5 11 rfl rfl)
theorem dX8_init_2_129 : decode cX8_init_2 129 = .ok (.return_, 1) := dk_177 (dk_at dksX8_init_2_5 14 rfl rfl)
theorem q131 : (Jvm.Cond.initialized "CreditBroker$Queue") ∈ lw_all := lw_g (lw_at lw_m1 35 rfl) rfl
theorem q1073 : (Jvm.Cond.selects "CreditBroker$Queue" ({ cls := "java/lang/Object", name := "getClass", desc := "()Ljava/lang/Class;" } : Jvm.MethodName) ({ cls := "java/lang/Object", name := "getClass", desc := "()Ljava/lang/Class;" } : Jvm.MethodName)) ∈ lw_all := lw_g (lw_at lw_m5 17 rfl) rfl
theorem q1136 : (Jvm.Cond.instantiable "CreditBroker$Queue" (13 : Nat)) ∈ lw_all := lw_g (lw_at lw_m5 80 rfl) rfl
theorem q1138 : (Jvm.Cond.instanceMethod ({ cls := "CreditBroker$Queue", name := "<init>", desc := "(ILCreditBroker$Pattern;[I)V" } : Jvm.MethodName)) ∈ lw_all := lw_g (lw_at lw_m5 82 rfl) rfl
theorem q1139 : (Jvm.Cond.code ({ cls := "CreditBroker$Queue", name := "<init>", desc := "(ILCreditBroker$Pattern;[I)V" } : Jvm.MethodName) prog_15_method_1_code (4 : Nat) (Option.none : Option Jvm.ClassFile.FieldType)) ∈ lw_all := lw_g (lw_at lw_m5 83 rfl) rfl
theorem q1140 : (Jvm.Cond.methodLink "CreditBroker$Queue" (3 : Nat) ({ cls := "java/lang/Object", name := "<init>", desc := "()V" } : Jvm.MethodName)) ∈ lw_all := lw_g (lw_at lw_m5 84 rfl) rfl
theorem q1141 : (Jvm.Cond.classLink "CreditBroker$Queue" (9 : Nat) "java/util/ArrayList") ∈ lw_all := lw_g (lw_at lw_m5 85 rfl) rfl
theorem q1142 : (Jvm.Cond.methodLink "CreditBroker$Queue" (11 : Nat) ({ cls := "java/util/ArrayList", name := "<init>", desc := "()V" } : Jvm.MethodName)) ∈ lw_all := lw_g (lw_at lw_m5 86 rfl) rfl
theorem q1143 : (Jvm.Cond.classLink "CreditBroker$Queue" (18 : Nat) "CreditBroker$ByPriority") ∈ lw_all := lw_g (lw_at lw_m5 87 rfl) rfl
theorem q1145 : (Jvm.Cond.methodLinkNest "CreditBroker$Queue" (20 : Nat) ({ cls := "CreditBroker$ByPriority", name := "<init>", desc := "()V" } : Jvm.MethodName) "CreditBroker") ∈ lw_tbl := lw_at lw_m5 89 rfl
theorem q1150 : (Jvm.Cond.fieldLink "CreditBroker$Queue" (29 : Nat) "CreditBroker$Queue" "number" "I") ∈ lw_all := lw_g (lw_at lw_m5 94 rfl) rfl
theorem q1153 : (Jvm.Cond.fieldLink "CreditBroker$Queue" (32 : Nat) "CreditBroker$Queue" "pattern" "LCreditBroker$Pattern;") ∈ lw_all := lw_g (lw_at lw_m5 97 rfl) rfl
theorem q1156 : (Jvm.Cond.fieldLink "CreditBroker$Queue" (36 : Nat) "CreditBroker$Queue" "limit" "I") ∈ lw_all := lw_g (lw_at lw_m5 100 rfl) rfl
theorem q1158 : (Jvm.Cond.fieldLink "CreditBroker$Queue" (39 : Nat) "CreditBroker$Queue" "tries" "I") ∈ lw_all := lw_g (lw_at lw_m5 102 rfl) rfl
theorem q1160 : (Jvm.Cond.fieldLink "CreditBroker$Queue" (42 : Nat) "CreditBroker$Queue" "lease" "I") ∈ lw_all := lw_g (lw_at lw_m5 104 rfl) rfl
theorem q1162 : (Jvm.Cond.fieldLink "CreditBroker$Queue" (45 : Nat) "CreditBroker$Queue" "age" "I") ∈ lw_all := lw_g (lw_at lw_m5 106 rfl) rfl
theorem q1164 : (Jvm.Cond.fieldLink "CreditBroker$Queue" (51 : Nat) "CreditBroker$Queue" "isExclusive" "Z") ∈ lw_all := lw_g (lw_at lw_m5 108 rfl) rfl
theorem q1167 : (Jvm.Cond.fieldLink "CreditBroker$Queue" (12 : Nat) "CreditBroker$Queue" "letters" "Ljava/util/ArrayList;") ∈ lw_all := lw_g (lw_at lw_m5 111 rfl) rfl
theorem q1170 : (Jvm.Cond.fieldLink "CreditBroker$Queue" (21 : Nat) "CreditBroker$Queue" "byPriority" "LCreditBroker$ByPriority;") ∈ lw_all := lw_g (lw_at lw_m5 114 rfl) rfl
theorem q1171 : (Jvm.Cond.fieldLink "CreditBroker$Queue" (25 : Nat) "CreditBroker$Queue" "latest" "I") ∈ lw_all := lw_g (lw_at lw_m5 115 rfl) rfl
theorem q1173 : (Jvm.Cond.fieldLink "CreditBroker$Queue" (78 : Nat) "CreditBroker$Queue" "given" "I") ∈ lw_all := lw_g (lw_at lw_m5 117 rfl) rfl
theorem q1176 : (Jvm.Cond.fieldLink "CreditBroker$Queue" (81 : Nat) "CreditBroker$Queue" "acknowledged" "I") ∈ lw_all := lw_g (lw_at lw_m5 120 rfl) rfl
theorem q1179 : (Jvm.Cond.fieldLink "CreditBroker$Queue" (84 : Nat) "CreditBroker$Queue" "died" "I") ∈ lw_all := lw_g (lw_at lw_m5 123 rfl) rfl
theorem q1182 : (Jvm.Cond.laysFinal "CreditBroker$Queue" "CreditBroker$Queue" "number" "I") ∈ lw_all := lw_g (lw_at lw_m5 126 rfl) rfl
theorem q1183 : (Jvm.Cond.soleField "CreditBroker$Queue" "number") ∈ lw_all := lw_g (lw_at lw_m5 127 rfl) rfl
theorem q1184 : (Jvm.Cond.laysFinal "CreditBroker$Queue" "CreditBroker$Queue" "pattern" "LCreditBroker$Pattern;") ∈ lw_all := lw_g (lw_at lw_m5 128 rfl) rfl
theorem q1185 : (Jvm.Cond.soleField "CreditBroker$Queue" "pattern") ∈ lw_all := lw_g (lw_at lw_m5 129 rfl) rfl
theorem q1186 : (Jvm.Cond.laysFinal "CreditBroker$Queue" "CreditBroker$Queue" "limit" "I") ∈ lw_all := lw_g (lw_at lw_m5 130 rfl) rfl
theorem q1187 : (Jvm.Cond.soleField "CreditBroker$Queue" "limit") ∈ lw_all := lw_g (lw_at lw_m5 131 rfl) rfl
theorem q1188 : (Jvm.Cond.laysFinal "CreditBroker$Queue" "CreditBroker$Queue" "tries" "I") ∈ lw_all := lw_g (lw_at lw_m5 132 rfl) rfl
theorem q1189 : (Jvm.Cond.soleField "CreditBroker$Queue" "tries") ∈ lw_all := lw_g (lw_at lw_m5 133 rfl) rfl
theorem q1190 : (Jvm.Cond.laysFinal "CreditBroker$Queue" "CreditBroker$Queue" "lease" "I") ∈ lw_all := lw_g (lw_at lw_m5 134 rfl) rfl
theorem q1191 : (Jvm.Cond.soleField "CreditBroker$Queue" "lease") ∈ lw_all := lw_g (lw_at lw_m5 135 rfl) rfl
theorem q1192 : (Jvm.Cond.laysFinal "CreditBroker$Queue" "CreditBroker$Queue" "age" "I") ∈ lw_all := lw_g (lw_at lw_m5 136 rfl) rfl
theorem q1193 : (Jvm.Cond.soleField "CreditBroker$Queue" "age") ∈ lw_all := lw_g (lw_at lw_m5 137 rfl) rfl
theorem q1194 : (Jvm.Cond.lays "CreditBroker$Queue" "CreditBroker$Queue" "isExclusive" "Z") ∈ lw_all := lw_g (lw_at lw_m5 138 rfl) rfl
theorem q1195 : (Jvm.Cond.soleField "CreditBroker$Queue" "isExclusive") ∈ lw_all := lw_g (lw_at lw_m5 139 rfl) rfl
theorem q1196 : (Jvm.Cond.laysFinal "CreditBroker$Queue" "CreditBroker$Queue" "letters" "Ljava/util/ArrayList;") ∈ lw_all := lw_g (lw_at lw_m5 140 rfl) rfl
theorem q1197 : (Jvm.Cond.soleField "CreditBroker$Queue" "letters") ∈ lw_all := lw_g (lw_at lw_m5 141 rfl) rfl
theorem q1198 : (Jvm.Cond.laysFinal "CreditBroker$Queue" "CreditBroker$Queue" "byPriority" "LCreditBroker$ByPriority;") ∈ lw_all := lw_g (lw_at lw_m5 142 rfl) rfl
theorem q1199 : (Jvm.Cond.soleField "CreditBroker$Queue" "byPriority") ∈ lw_all := lw_g (lw_at lw_m5 143 rfl) rfl
theorem q1200 : (Jvm.Cond.lays "CreditBroker$Queue" "CreditBroker$Queue" "latest" "I") ∈ lw_all := lw_g (lw_at lw_m5 144 rfl) rfl
theorem q1201 : (Jvm.Cond.soleField "CreditBroker$Queue" "latest") ∈ lw_all := lw_g (lw_at lw_m5 145 rfl) rfl
theorem q1202 : (Jvm.Cond.lays "CreditBroker$Queue" "CreditBroker$Queue" "given" "I") ∈ lw_all := lw_g (lw_at lw_m5 146 rfl) rfl
theorem q1203 : (Jvm.Cond.soleField "CreditBroker$Queue" "given") ∈ lw_all := lw_g (lw_at lw_m5 147 rfl) rfl
theorem q1204 : (Jvm.Cond.lays "CreditBroker$Queue" "CreditBroker$Queue" "acknowledged" "I") ∈ lw_all := lw_g (lw_at lw_m5 148 rfl) rfl
theorem q1205 : (Jvm.Cond.soleField "CreditBroker$Queue" "acknowledged") ∈ lw_all := lw_g (lw_at lw_m5 149 rfl) rfl
theorem q1206 : (Jvm.Cond.lays "CreditBroker$Queue" "CreditBroker$Queue" "died" "I") ∈ lw_all := lw_g (lw_at lw_m5 150 rfl) rfl
theorem q1207 : (Jvm.Cond.soleField "CreditBroker$Queue" "died") ∈ lw_all := lw_g (lw_at lw_m5 151 rfl) rfl
theorem q1208 : (Jvm.Cond.superclass "CreditBroker$Queue" "java/lang/Object") ∈ lw_all := lw_g (lw_at lw_m5 152 rfl) rfl
theorem q1548 : (Jvm.Cond.fieldLink "CreditBroker$Queue" (123 : Nat) "CreditBroker$Message" "number" "I") ∈ lw_all := lw_g (lw_at lw_m7 12 rfl) rfl
theorem q1551 : (Jvm.Cond.fieldLink "CreditBroker$Queue" (110 : Nat) "CreditBroker$Message" "key" "I") ∈ lw_all := lw_g (lw_at lw_m7 15 rfl) rfl
theorem q1602 : (Jvm.Cond.instanceMethod ({ cls := "CreditBroker$Queue", name := "isFull", desc := "()Z" } : Jvm.MethodName)) ∈ lw_all := lw_g (lw_at lw_m7 66 rfl) rfl
theorem q1603 : (Jvm.Cond.selects "CreditBroker$Queue" ({ cls := "CreditBroker$Queue", name := "isFull", desc := "()Z" } : Jvm.MethodName) ({ cls := "CreditBroker$Queue", name := "isFull", desc := "()Z" } : Jvm.MethodName)) ∈ lw_all := lw_g (lw_at lw_m7 67 rfl) rfl
theorem q1604 : (Jvm.Cond.code ({ cls := "CreditBroker$Queue", name := "isFull", desc := "()Z" } : Jvm.MethodName) prog_15_method_8_code (1 : Nat) (Option.some Jvm.ClassFile.FieldType.boolean)) ∈ lw_all := lw_g (lw_at lw_m7 68 rfl) rfl
theorem q1605 : (Jvm.Cond.methodLink "CreditBroker$Queue" (87 : Nat) ({ cls := "java/util/ArrayList", name := "size", desc := "()I" } : Jvm.MethodName)) ∈ lw_all := lw_g (lw_at lw_m7 69 rfl) rfl
theorem q1711 : (Jvm.Cond.fieldLink "CreditBroker$Queue" (106 : Nat) "CreditBroker$Letter" "message" "LCreditBroker$Message;") ∈ lw_all := lw_g (lw_at lw_m7 175 rfl) rfl
theorem q1714 : (Jvm.Cond.fieldLink "CreditBroker$Queue" (115 : Nat) "CreditBroker$Letter" "state" "I") ∈ lw_all := lw_g (lw_at lw_m7 178 rfl) rfl
theorem q1754 : (Jvm.Cond.instanceMethod ({ cls := "CreditBroker$Queue", name := "next", desc := "()LCreditBroker$Letter;" } : Jvm.MethodName)) ∈ lw_all := lw_g (lw_at lw_m7 218 rfl) rfl
theorem q1755 : (Jvm.Cond.selects "CreditBroker$Queue" ({ cls := "CreditBroker$Queue", name := "next", desc := "()LCreditBroker$Letter;" } : Jvm.MethodName) ({ cls := "CreditBroker$Queue", name := "next", desc := "()LCreditBroker$Letter;" } : Jvm.MethodName)) ∈ lw_all := lw_g (lw_at lw_m7 219 rfl) rfl
theorem q1756 : (Jvm.Cond.code ({ cls := "CreditBroker$Queue", name := "next", desc := "()LCreditBroker$Letter;" } : Jvm.MethodName) prog_15_method_6_code (7 : Nat) (Option.some (Jvm.ClassFile.FieldType.object "CreditBroker$Letter"))) ∈ lw_all := lw_g (lw_at lw_m7 220 rfl) rfl
theorem q1757 : (Jvm.Cond.methodLink "CreditBroker$Queue" (91 : Nat) ({ cls := "java/util/ArrayList", name := "get", desc := "(I)Ljava/lang/Object;" } : Jvm.MethodName)) ∈ lw_all := lw_g (lw_at lw_m7 221 rfl) rfl
theorem q1758 : (Jvm.Cond.classLink "CreditBroker$Queue" (69 : Nat) "CreditBroker$Letter") ∈ lw_all := lw_g (lw_at lw_m7 222 rfl) rfl
theorem q1759 : (Jvm.Cond.methodLink "CreditBroker$Queue" (119 : Nat) ({ cls := "CreditBroker$ByPriority", name := "compare", desc := "(LCreditBroker$Letter;LCreditBroker$Letter;)I" } : Jvm.MethodName)) ∈ lw_all := lw_g (lw_at lw_m7 223 rfl) rfl
theorem q1817 : (Jvm.Cond.selects "CreditBroker$Queue" ({ cls := "java/lang/Object", name := "equals", desc := "(Ljava/lang/Object;)Z" } : Jvm.MethodName) ({ cls := "java/lang/Object", name := "equals", desc := "(Ljava/lang/Object;)Z" } : Jvm.MethodName)) ∈ lw_all := lw_g (lw_at lw_m8 41 rfl) rfl
theorem q1857 : (Jvm.Cond.instanceMethod ({ cls := "CreditBroker$Queue", name := "many", desc := "(LCreditBroker$Which;)I" } : Jvm.MethodName)) ∈ lw_all := lw_g (lw_at lw_m8 81 rfl) rfl
theorem q1858 : (Jvm.Cond.selects "CreditBroker$Queue" ({ cls := "CreditBroker$Queue", name := "many", desc := "(LCreditBroker$Which;)I" } : Jvm.MethodName) ({ cls := "CreditBroker$Queue", name := "many", desc := "(LCreditBroker$Which;)I" } : Jvm.MethodName)) ∈ lw_all := lw_g (lw_at lw_m8 82 rfl) rfl
theorem q1859 : (Jvm.Cond.code ({ cls := "CreditBroker$Queue", name := "many", desc := "(LCreditBroker$Which;)I" } : Jvm.MethodName) prog_15_method_3_code (4 : Nat) (Option.some Jvm.ClassFile.FieldType.int)) ∈ lw_all := lw_g (lw_at lw_m8 83 rfl) rfl
theorem q1860 : (Jvm.Cond.interfaceEntry "CreditBroker$Queue" (95 : Nat)) ∈ lw_tbl := lw_at lw_m8 84 rfl
theorem q1861 : (Jvm.Cond.methodLink "CreditBroker$Queue" (95 : Nat) ({ cls := "CreditBroker$Which", name := "is", desc := "(LCreditBroker$Letter;)Z" } : Jvm.MethodName)) ∈ lw_all := lw_g (lw_at lw_m8 85 rfl) rfl
theorem q1959 : (Jvm.Cond.instanceMethod ({ cls := "CreditBroker$Queue", name := "takes", desc := "(LCreditBroker$Letter;)V" } : Jvm.MethodName)) ∈ lw_all := lw_g (lw_at lw_m8 183 rfl) rfl
theorem q1960 : (Jvm.Cond.selects "CreditBroker$Queue" ({ cls := "CreditBroker$Queue", name := "takes", desc := "(LCreditBroker$Letter;)V" } : Jvm.MethodName) ({ cls := "CreditBroker$Queue", name := "takes", desc := "(LCreditBroker$Letter;)V" } : Jvm.MethodName)) ∈ lw_all := lw_g (lw_at lw_m8 184 rfl) rfl
theorem q1961 : (Jvm.Cond.code ({ cls := "CreditBroker$Queue", name := "takes", desc := "(LCreditBroker$Letter;)V" } : Jvm.MethodName) prog_15_method_9_code (5 : Nat) (Option.none : Option Jvm.ClassFile.FieldType)) ∈ lw_all := lw_g (lw_at lw_m8 185 rfl) rfl
theorem q1962 : (Jvm.Cond.methodLink "CreditBroker$Queue" (55 : Nat) ({ cls := "java/util/ArrayList", name := "iterator", desc := "()Ljava/util/Iterator;" } : Jvm.MethodName)) ∈ lw_all := lw_g (lw_at lw_m8 186 rfl) rfl
theorem q1963 : (Jvm.Cond.interfaceEntry "CreditBroker$Queue" (59 : Nat)) ∈ lw_tbl := lw_at lw_m8 187 rfl
theorem q1964 : (Jvm.Cond.methodLink "CreditBroker$Queue" (59 : Nat) ({ cls := "java/util/Iterator", name := "hasNext", desc := "()Z" } : Jvm.MethodName)) ∈ lw_all := lw_g (lw_at lw_m8 188 rfl) rfl
theorem q1965 : (Jvm.Cond.interfaceEntry "CreditBroker$Queue" (65 : Nat)) ∈ lw_tbl := lw_at lw_m8 189 rfl
theorem q1966 : (Jvm.Cond.methodLink "CreditBroker$Queue" (65 : Nat) ({ cls := "java/util/Iterator", name := "next", desc := "()Ljava/lang/Object;" } : Jvm.MethodName)) ∈ lw_all := lw_g (lw_at lw_m8 190 rfl) rfl
theorem q1967 : (Jvm.Cond.methodLink "CreditBroker$Queue" (124 : Nat) ({ cls := "java/util/ArrayList", name := "add", desc := "(ILjava/lang/Object;)V" } : Jvm.MethodName)) ∈ lw_all := lw_g (lw_at lw_m8 191 rfl) rfl
theorem q2440 : (Jvm.Cond.instanceMethod ({ cls := "CreditBroker$Queue", name := "mays", desc := "()Ljava/util/PriorityQueue;" } : Jvm.MethodName)) ∈ lw_all := lw_g (lw_at lw_m10 184 rfl) rfl
theorem q2441 : (Jvm.Cond.selects "CreditBroker$Queue" ({ cls := "CreditBroker$Queue", name := "mays", desc := "()Ljava/util/PriorityQueue;" } : Jvm.MethodName) ({ cls := "CreditBroker$Queue", name := "mays", desc := "()Ljava/util/PriorityQueue;" } : Jvm.MethodName)) ∈ lw_all := lw_g (lw_at lw_m10 185 rfl) rfl
theorem q2442 : (Jvm.Cond.code ({ cls := "CreditBroker$Queue", name := "mays", desc := "()Ljava/util/PriorityQueue;" } : Jvm.MethodName) prog_15_method_5_code (6 : Nat) (Option.some (Jvm.ClassFile.FieldType.object "java/util/PriorityQueue"))) ∈ lw_all := lw_g (lw_at lw_m10 186 rfl) rfl
theorem q2443 : (Jvm.Cond.classLink "CreditBroker$Queue" (101 : Nat) "java/util/PriorityQueue") ∈ lw_all := lw_g (lw_at lw_m10 187 rfl) rfl
theorem q2444 : (Jvm.Cond.methodLink "CreditBroker$Queue" (103 : Nat) ({ cls := "java/util/PriorityQueue", name := "<init>", desc := "(ILjava/util/Comparator;)V" } : Jvm.MethodName)) ∈ lw_all := lw_g (lw_at lw_m10 188 rfl) rfl
theorem q2468 : (Jvm.Cond.methodLink "CreditBroker$Queue" (118 : Nat) ({ cls := "java/util/PriorityQueue", name := "add", desc := "(Ljava/lang/Object;)Z" } : Jvm.MethodName)) ∈ lw_all := lw_g (lw_at lw_m10 212 rfl) rfl
theorem q2507 : (Jvm.Cond.instanceMethod ({ cls := "CreditBroker$Queue", name := "get", desc := "(ILCreditBroker$Which;)LCreditBroker$Letter;" } : Jvm.MethodName)) ∈ lw_all := lw_g (lw_at lw_m11 11 rfl) rfl
theorem q2508 : (Jvm.Cond.selects "CreditBroker$Queue" ({ cls := "CreditBroker$Queue", name := "get", desc := "(ILCreditBroker$Which;)LCreditBroker$Letter;" } : Jvm.MethodName) ({ cls := "CreditBroker$Queue", name := "get", desc := "(ILCreditBroker$Which;)LCreditBroker$Letter;" } : Jvm.MethodName)) ∈ lw_all := lw_g (lw_at lw_m11 12 rfl) rfl
theorem q2509 : (Jvm.Cond.code ({ cls := "CreditBroker$Queue", name := "get", desc := "(ILCreditBroker$Which;)LCreditBroker$Letter;" } : Jvm.MethodName) prog_15_method_4_code (5 : Nat) (Option.some (Jvm.ClassFile.FieldType.object "CreditBroker$Letter"))) ∈ lw_all := lw_g (lw_at lw_m11 13 rfl) rfl
theorem q2571 : (Jvm.Cond.instanceMethod ({ cls := "CreditBroker$Queue", name := "keys", desc := "(LCreditBroker$Which;)I" } : Jvm.MethodName)) ∈ lw_all := lw_g (lw_at lw_m11 75 rfl) rfl
theorem q2572 : (Jvm.Cond.selects "CreditBroker$Queue" ({ cls := "CreditBroker$Queue", name := "keys", desc := "(LCreditBroker$Which;)I" } : Jvm.MethodName) ({ cls := "CreditBroker$Queue", name := "keys", desc := "(LCreditBroker$Which;)I" } : Jvm.MethodName)) ∈ lw_all := lw_g (lw_at lw_m11 76 rfl) rfl
theorem q2573 : (Jvm.Cond.code ({ cls := "CreditBroker$Queue", name := "keys", desc := "(LCreditBroker$Which;)I" } : Jvm.MethodName) prog_15_method_7_code (4 : Nat) (Option.some Jvm.ClassFile.FieldType.int)) ∈ lw_all := lw_g (lw_at lw_m11 77 rfl) rfl
theorem q2608 : (Jvm.Cond.instanceMethod ({ cls := "CreditBroker$Queue", name := "drained", desc := "()Ljava/util/ArrayDeque;" } : Jvm.MethodName)) ∈ lw_all := lw_g (lw_at lw_m11 112 rfl) rfl
theorem q2609 : (Jvm.Cond.selects "CreditBroker$Queue" ({ cls := "CreditBroker$Queue", name := "drained", desc := "()Ljava/util/ArrayDeque;" } : Jvm.MethodName) ({ cls := "CreditBroker$Queue", name := "drained", desc := "()Ljava/util/ArrayDeque;" } : Jvm.MethodName)) ∈ lw_all := lw_g (lw_at lw_m11 113 rfl) rfl
theorem q2610 : (Jvm.Cond.code ({ cls := "CreditBroker$Queue", name := "drained", desc := "()Ljava/util/ArrayDeque;" } : Jvm.MethodName) prog_15_method_10_code (4 : Nat) (Option.some (Jvm.ClassFile.FieldType.object "java/util/ArrayDeque"))) ∈ lw_all := lw_g (lw_at lw_m11 114 rfl) rfl
theorem q2611 : (Jvm.Cond.classLink "CreditBroker$Queue" (13 : Nat) "CreditBroker$Queue") ∈ lw_all := lw_g (lw_at lw_m11 115 rfl) rfl
theorem q2612 : (Jvm.Cond.methodLink "CreditBroker$Queue" (127 : Nat) ({ cls := "CreditBroker$Queue", name := "<init>", desc := "(LCreditBroker$Queue;)V" } : Jvm.MethodName)) ∈ lw_all := lw_g (lw_at lw_m11 116 rfl) rfl
theorem q2613 : (Jvm.Cond.instanceMethod ({ cls := "CreditBroker$Queue", name := "<init>", desc := "(LCreditBroker$Queue;)V" } : Jvm.MethodName)) ∈ lw_all := lw_g (lw_at lw_m11 117 rfl) rfl
theorem q2614 : (Jvm.Cond.code ({ cls := "CreditBroker$Queue", name := "<init>", desc := "(LCreditBroker$Queue;)V" } : Jvm.MethodName) prog_15_method_2_code (4 : Nat) (Option.none : Option Jvm.ClassFile.FieldType)) ∈ lw_all := lw_g (lw_at lw_m11 118 rfl) rfl
theorem q2615 : (Jvm.Cond.methodLink "CreditBroker$Queue" (48 : Nat) ({ cls := "CreditBroker$Queue", name := "<init>", desc := "(ILCreditBroker$Pattern;[I)V" } : Jvm.MethodName)) ∈ lw_all := lw_g (lw_at lw_m11 119 rfl) rfl
theorem q2616 : (Jvm.Cond.methodLink "CreditBroker$Queue" (71 : Nat) ({ cls := "CreditBroker$Letter", name := "<init>", desc := "(LCreditBroker$Letter;)V" } : Jvm.MethodName)) ∈ lw_all := lw_g (lw_at lw_m11 120 rfl) rfl
theorem q2620 : (Jvm.Cond.methodLink "CreditBroker$Queue" (74 : Nat) ({ cls := "java/util/ArrayList", name := "add", desc := "(Ljava/lang/Object;)Z" } : Jvm.MethodName)) ∈ lw_all := lw_g (lw_at lw_m11 124 rfl) rfl
theorem q2621 : (Jvm.Cond.classLink "CreditBroker$Queue" (130 : Nat) "java/util/ArrayDeque") ∈ lw_all := lw_g (lw_at lw_m11 125 rfl) rfl
theorem q2622 : (Jvm.Cond.methodLink "CreditBroker$Queue" (132 : Nat) ({ cls := "java/util/ArrayDeque", name := "<init>", desc := "()V" } : Jvm.MethodName)) ∈ lw_all := lw_g (lw_at lw_m11 126 rfl) rfl
theorem q2623 : (Jvm.Cond.methodLink "CreditBroker$Queue" (133 : Nat) ({ cls := "CreditBroker$Queue", name := "next", desc := "()LCreditBroker$Letter;" } : Jvm.MethodName)) ∈ lw_all := lw_g (lw_at lw_m11 127 rfl) rfl
theorem q2624 : (Jvm.Cond.methodLink "CreditBroker$Queue" (136 : Nat) ({ cls := "java/lang/Integer", name := "valueOf", desc := "(I)Ljava/lang/Integer;" } : Jvm.MethodName)) ∈ lw_all := lw_g (lw_at lw_m11 128 rfl) rfl
theorem q2643 : (Jvm.Cond.methodLink "CreditBroker$Queue" (142 : Nat) ({ cls := "java/util/ArrayDeque", name := "addLast", desc := "(Ljava/lang/Object;)V" } : Jvm.MethodName)) ∈ lw_all := lw_g (lw_at lw_m11 147 rfl) rfl
theorem q2644 : (Jvm.Cond.methodLink "CreditBroker$Queue" (146 : Nat) ({ cls := "java/util/ArrayList", name := "remove", desc := "(Ljava/lang/Object;)Z" } : Jvm.MethodName)) ∈ lw_all := lw_g (lw_at lw_m11 148 rfl) rfl
theorem q3329 : (Jvm.Cond.castable "CreditBroker$Queue" "java/lang/Object") ∈ lw_tbl := lw_at lw_m14 113 rfl
theorem in_X8 : ∀ w ∈ wsX80, w ∈ lw_all := lw_in wsX80 [1182, 1184, 1186, 1188, 1190, 1192, 1194, 1196, 1198, 1200, 1202, 1204, 1206] (by decide +kernel) (by decide +kernel)
/-! CreditBroker$ByPriority -/
def RX9 : String := "CreditBroker$ByPriority"
abbrev cX9_init : ByteArray := prog_2_method_1_code
def yX9_init : MethodName := ⟨RX9, "<init>", "()V"⟩
theorem dX9_init_0 : decode cX9_init 0 = .ok (.aload_n 0, 1) := by decide +kernel
theorem dX9_init_1 : decode cX9_init 1 = .ok (.invokespecial 1, 3) := by decide +kernel
theorem dX9_init_4 : decode cX9_init 4 = .ok (.return_, 1) := by decide +kernel
abbrev cX9_compare : ByteArray := prog_2_method_2_code
def yX9_compare : MethodName := ⟨RX9, "compare", "(LCreditBroker$Letter;LCreditBroker$Letter;)I"⟩
def dkwX9_compare_1 : List UInt8 := [25, 4, 180, 0, 13, 45, 180, 0, 13, 100, 167, 0, 13, 45, 180, 0, 19, 25, 4, 180, 0, 19, 100, 172]
abbrev dktX9_compare_1 : List UInt8 := dkwX9_compare_1 ++ []
def dkwX9_compare_0 : List UInt8 := [43, 180, 0, 7, 78, 44, 180, 0, 7, 58, 4, 45, 180, 0, 13, 25, 4, 180, 0, 13, 159, 0, 16]
abbrev dktX9_compare_0 : List UInt8 := dkwX9_compare_0 ++ dktX9_compare_1
theorem dksX9_compare_0 : cX9_compare.data.toList.drop 0 = dktX9_compare_0 := by decide +kernel
theorem dksX9_compare_1 : cX9_compare.data.toList.drop 23 = dktX9_compare_1 := dk_seg dksX9_compare_0 23 rfl rfl
theorem dX9_compare_0 : decode cX9_compare 0 = .ok (.aload_n 1, 1) := dk_43 (dk_at dksX9_compare_0 0 rfl rfl)
theorem dX9_compare_1 : decode cX9_compare 1 = .ok (.getfield 7, 3) := dk_180 0 7 (dk_at dksX9_compare_0 1 rfl rfl)
theorem dX9_compare_4 : decode cX9_compare 4 = .ok (.astore_n 3, 1) := dk_78 (dk_at dksX9_compare_0 4 rfl rfl)
theorem dX9_compare_5 : decode cX9_compare 5 = .ok (.aload_n 2, 1) := dk_44 (dk_at dksX9_compare_0 5 rfl rfl)
theorem dX9_compare_6 : decode cX9_compare 6 = .ok (.getfield 7, 3) := dk_180 0 7 (dk_at dksX9_compare_0 6 rfl rfl)
theorem dX9_compare_9 : decode cX9_compare 9 = .ok (.astore 4, 2) := dk_58 4 (dk_at dksX9_compare_0 9 rfl rfl)
theorem dX9_compare_11 : decode cX9_compare 11 = .ok (.aload_n 3, 1) := dk_45 (dk_at dksX9_compare_0 11 rfl rfl)
theorem dX9_compare_12 : decode cX9_compare 12 = .ok (.getfield 13, 3) := dk_180 0 13 (dk_at dksX9_compare_0 12 rfl rfl)
theorem dX9_compare_15 : decode cX9_compare 15 = .ok (.aload 4, 2) := dk_25 4 (dk_at dksX9_compare_0 15 rfl rfl)
theorem dX9_compare_17 : decode cX9_compare 17 = .ok (.getfield 13, 3) := dk_180 0 13 (dk_at dksX9_compare_0 17 rfl rfl)
theorem dX9_compare_20 : decode cX9_compare 20 = .ok (.if_icmp .eq 16, 3) := dk_159 0 16 (dk_at dksX9_compare_0 20 rfl rfl)
theorem dX9_compare_23 : decode cX9_compare 23 = .ok (.aload 4, 2) := dk_25 4 (dk_at dksX9_compare_1 0 rfl rfl)
theorem dX9_compare_25 : decode cX9_compare 25 = .ok (.getfield 13, 3) := dk_180 0 13 (dk_at dksX9_compare_1 2 rfl rfl)
theorem dX9_compare_28 : decode cX9_compare 28 = .ok (.aload_n 3, 1) := dk_45 (dk_at dksX9_compare_1 5 rfl rfl)
theorem dX9_compare_29 : decode cX9_compare 29 = .ok (.getfield 13, 3) := dk_180 0 13 (dk_at dksX9_compare_1 6 rfl rfl)
theorem dX9_compare_32 : decode cX9_compare 32 = .ok (.isub, 1) := dk_100 (dk_at dksX9_compare_1 9 rfl rfl)
theorem dX9_compare_33 : decode cX9_compare 33 = .ok (.goto 13, 3) := dk_167 0 13 (dk_at dksX9_compare_1 10 rfl rfl)
theorem dX9_compare_36 : decode cX9_compare 36 = .ok (.aload_n 3, 1) := dk_45 (dk_at dksX9_compare_1 13 rfl rfl)
theorem dX9_compare_37 : decode cX9_compare 37 = .ok (.getfield 19, 3) := dk_180 0 19 (dk_at dksX9_compare_1 14 rfl rfl)
theorem dX9_compare_40 : decode cX9_compare 40 = .ok (.aload 4, 2) := dk_25 4 (dk_at dksX9_compare_1 17 rfl rfl)
theorem dX9_compare_42 : decode cX9_compare 42 = .ok (.getfield 19, 3) := dk_180 0 19 (dk_at dksX9_compare_1 19 rfl rfl)
theorem dX9_compare_45 : decode cX9_compare 45 = .ok (.isub, 1) := dk_100 (dk_at dksX9_compare_1 22 rfl rfl)
theorem dX9_compare_46 : decode cX9_compare 46 = .ok (.ireturn, 1) := dk_172 (dk_at dksX9_compare_1 23 rfl rfl)
abbrev cX9_compare_2 : ByteArray := prog_2_method_3_code
def yX9_compare_2 : MethodName := ⟨RX9, "compare", "(Ljava/lang/Object;Ljava/lang/Object;)I"⟩
def dkwX9_compare_2_0 : List UInt8 := [42, 43, 192, 0, 8, 44, 192, 0, 8, 182, 0, 22, 172]
abbrev dktX9_compare_2_0 : List UInt8 := dkwX9_compare_2_0 ++ []
theorem dksX9_compare_2_0 : cX9_compare_2.data.toList.drop 0 = dktX9_compare_2_0 := by decide +kernel
theorem dX9_compare_2_0 : decode cX9_compare_2 0 = .ok (.aload_n 0, 1) := dk_42 (dk_at dksX9_compare_2_0 0 rfl rfl)
theorem dX9_compare_2_1 : decode cX9_compare_2 1 = .ok (.aload_n 1, 1) := dk_43 (dk_at dksX9_compare_2_0 1 rfl rfl)
theorem dX9_compare_2_2 : decode cX9_compare_2 2 = .ok (.checkcast 8, 3) := dk_192 0 8 (dk_at dksX9_compare_2_0 2 rfl rfl)
theorem dX9_compare_2_5 : decode cX9_compare_2 5 = .ok (.aload_n 2, 1) := dk_44 (dk_at dksX9_compare_2_0 5 rfl rfl)
theorem dX9_compare_2_6 : decode cX9_compare_2 6 = .ok (.checkcast 8, 3) := dk_192 0 8 (dk_at dksX9_compare_2_0 6 rfl rfl)
theorem dX9_compare_2_9 : decode cX9_compare_2 9 = .ok (.invokevirtual 22, 3) := dk_182 0 22 (dk_at dksX9_compare_2_0 9 rfl rfl)
theorem dX9_compare_2_12 : decode cX9_compare_2 12 = .ok (.ireturn, 1) := dk_172 (dk_at dksX9_compare_2_0 12 rfl rfl)
theorem q132 : (Jvm.Cond.initialized "CreditBroker$ByPriority") ∈ lw_all := lw_g (lw_at lw_m1 36 rfl) rfl
theorem q1063 : (Jvm.Cond.selects "CreditBroker$ByPriority" ({ cls := "java/lang/Object", name := "getClass", desc := "()Ljava/lang/Class;" } : Jvm.MethodName) ({ cls := "java/lang/Object", name := "getClass", desc := "()Ljava/lang/Class;" } : Jvm.MethodName)) ∈ lw_all := lw_g (lw_at lw_m5 7 rfl) rfl
theorem q1144 : (Jvm.Cond.instantiable "CreditBroker$ByPriority" (0 : Nat)) ∈ lw_all := lw_g (lw_at lw_m5 88 rfl) rfl
theorem q1146 : (Jvm.Cond.instanceMethod ({ cls := "CreditBroker$ByPriority", name := "<init>", desc := "()V" } : Jvm.MethodName)) ∈ lw_all := lw_g (lw_at lw_m5 90 rfl) rfl
theorem q1147 : (Jvm.Cond.code ({ cls := "CreditBroker$ByPriority", name := "<init>", desc := "()V" } : Jvm.MethodName) prog_2_method_1_code (1 : Nat) (Option.none : Option Jvm.ClassFile.FieldType)) ∈ lw_all := lw_g (lw_at lw_m5 91 rfl) rfl
theorem q1148 : (Jvm.Cond.methodLink "CreditBroker$ByPriority" (1 : Nat) ({ cls := "java/lang/Object", name := "<init>", desc := "()V" } : Jvm.MethodName)) ∈ lw_all := lw_g (lw_at lw_m5 92 rfl) rfl
theorem q1149 : (Jvm.Cond.superclass "CreditBroker$ByPriority" "java/lang/Object") ∈ lw_all := lw_g (lw_at lw_m5 93 rfl) rfl
theorem q1546 : (Jvm.Cond.fieldLink "CreditBroker$ByPriority" (19 : Nat) "CreditBroker$Message" "number" "I") ∈ lw_all := lw_g (lw_at lw_m7 10 rfl) rfl
theorem q1554 : (Jvm.Cond.fieldLink "CreditBroker$ByPriority" (13 : Nat) "CreditBroker$Message" "priority" "I") ∈ lw_all := lw_g (lw_at lw_m7 18 rfl) rfl
theorem q1709 : (Jvm.Cond.fieldLink "CreditBroker$ByPriority" (7 : Nat) "CreditBroker$Letter" "message" "LCreditBroker$Message;") ∈ lw_all := lw_g (lw_at lw_m7 173 rfl) rfl
theorem q1760 : (Jvm.Cond.instanceMethod ({ cls := "CreditBroker$ByPriority", name := "compare", desc := "(LCreditBroker$Letter;LCreditBroker$Letter;)I" } : Jvm.MethodName)) ∈ lw_all := lw_g (lw_at lw_m7 224 rfl) rfl
theorem q1761 : (Jvm.Cond.selects "CreditBroker$ByPriority" ({ cls := "CreditBroker$ByPriority", name := "compare", desc := "(LCreditBroker$Letter;LCreditBroker$Letter;)I" } : Jvm.MethodName) ({ cls := "CreditBroker$ByPriority", name := "compare", desc := "(LCreditBroker$Letter;LCreditBroker$Letter;)I" } : Jvm.MethodName)) ∈ lw_all := lw_g (lw_at lw_m7 225 rfl) rfl
theorem q1762 : (Jvm.Cond.code ({ cls := "CreditBroker$ByPriority", name := "compare", desc := "(LCreditBroker$Letter;LCreditBroker$Letter;)I" } : Jvm.MethodName) prog_2_method_2_code (5 : Nat) (Option.some Jvm.ClassFile.FieldType.int)) ∈ lw_all := lw_g (lw_at lw_m7 226 rfl) rfl
theorem q1807 : (Jvm.Cond.selects "CreditBroker$ByPriority" ({ cls := "java/lang/Object", name := "equals", desc := "(Ljava/lang/Object;)Z" } : Jvm.MethodName) ({ cls := "java/lang/Object", name := "equals", desc := "(Ljava/lang/Object;)Z" } : Jvm.MethodName)) ∈ lw_all := lw_g (lw_at lw_m8 31 rfl) rfl
theorem q2166 : (Jvm.Cond.castable "CreditBroker$ByPriority" "java/util/Comparator") ∈ lw_tbl := lw_at lw_m9 150 rfl
theorem q2167 : (Jvm.Cond.selects "CreditBroker$ByPriority" ({ cls := "java/util/Comparator", name := "compare", desc := "(Ljava/lang/Object;Ljava/lang/Object;)I" } : Jvm.MethodName) ({ cls := "CreditBroker$ByPriority", name := "compare", desc := "(Ljava/lang/Object;Ljava/lang/Object;)I" } : Jvm.MethodName)) ∈ lw_all := lw_g (lw_at lw_m9 151 rfl) rfl
theorem q2168 : (Jvm.Cond.unhidden "CreditBroker$ByPriority" "compare" "(Ljava/lang/Object;Ljava/lang/Object;)I") ∈ lw_tbl := lw_at lw_m9 152 rfl
theorem q2169 : (Jvm.Cond.instanceMethod ({ cls := "CreditBroker$ByPriority", name := "compare", desc := "(Ljava/lang/Object;Ljava/lang/Object;)I" } : Jvm.MethodName)) ∈ lw_all := lw_g (lw_at lw_m9 153 rfl) rfl
theorem q2170 : (Jvm.Cond.publicMethod ({ cls := "CreditBroker$ByPriority", name := "compare", desc := "(Ljava/lang/Object;Ljava/lang/Object;)I" } : Jvm.MethodName)) ∈ lw_tbl := lw_at lw_m9 154 rfl
theorem q2171 : (Jvm.Cond.code ({ cls := "CreditBroker$ByPriority", name := "compare", desc := "(Ljava/lang/Object;Ljava/lang/Object;)I" } : Jvm.MethodName) prog_2_method_3_code (3 : Nat) (Option.some Jvm.ClassFile.FieldType.int)) ∈ lw_all := lw_g (lw_at lw_m9 155 rfl) rfl
theorem q2172 : (Jvm.Cond.classLink "CreditBroker$ByPriority" (8 : Nat) "CreditBroker$Letter") ∈ lw_all := lw_g (lw_at lw_m9 156 rfl) rfl
theorem q2173 : (Jvm.Cond.methodLink "CreditBroker$ByPriority" (22 : Nat) ({ cls := "CreditBroker$ByPriority", name := "compare", desc := "(LCreditBroker$Letter;LCreditBroker$Letter;)I" } : Jvm.MethodName)) ∈ lw_all := lw_g (lw_at lw_m9 157 rfl) rfl
theorem q3330 : (Jvm.Cond.castable "CreditBroker$ByPriority" "java/lang/Object") ∈ lw_tbl := lw_at lw_m14 114 rfl
/-! java/lang/Object -/
def RJ41 : String := "java/lang/Object"
abbrev cJ41_init : ByteArray := object_method_1_code
def yJ41_init : MethodName := ⟨RJ41, "<init>", "()V"⟩
theorem dJ41_init_0 : decode cJ41_init 0 = .ok (.return_, 1) := by decide +kernel
abbrev cJ41_equals : ByteArray := object_method_4_code
def yJ41_equals : MethodName := ⟨RJ41, "equals", "(Ljava/lang/Object;)Z"⟩
def dkwJ41_equals_0 : List UInt8 := [42, 43, 166, 0, 7, 4, 167, 0, 4, 3, 172]
abbrev dktJ41_equals_0 : List UInt8 := dkwJ41_equals_0 ++ []
theorem dksJ41_equals_0 : cJ41_equals.data.toList.drop 0 = dktJ41_equals_0 := by decide +kernel
theorem dJ41_equals_0 : decode cJ41_equals 0 = .ok (.aload_n 0, 1) := dk_42 (dk_at dksJ41_equals_0 0 rfl rfl)
theorem dJ41_equals_1 : decode cJ41_equals 1 = .ok (.aload_n 1, 1) := dk_43 (dk_at dksJ41_equals_0 1 rfl rfl)
theorem dJ41_equals_2 : decode cJ41_equals 2 = .ok (.if_acmp .ne 7, 3) := dk_166 0 7 (dk_at dksJ41_equals_0 2 rfl rfl)
theorem dJ41_equals_5 : decode cJ41_equals 5 = .ok (.iconst 1, 1) := dk_4 (dk_at dksJ41_equals_0 5 rfl rfl)
theorem dJ41_equals_6 : decode cJ41_equals 6 = .ok (.goto 4, 3) := dk_167 0 4 (dk_at dksJ41_equals_0 6 rfl rfl)
theorem dJ41_equals_9 : decode cJ41_equals 9 = .ok (.iconst 0, 1) := dk_3 (dk_at dksJ41_equals_0 9 rfl rfl)
theorem dJ41_equals_10 : decode cJ41_equals 10 = .ok (.ireturn, 1) := dk_172 (dk_at dksJ41_equals_0 10 rfl rfl)
theorem q169 : (Jvm.Cond.instanceMethod ({ cls := "java/lang/Object", name := "<init>", desc := "()V" } : Jvm.MethodName)) ∈ lw_all := lw_g (lw_at lw_m1 73 rfl) rfl
theorem q170 : (Jvm.Cond.code ({ cls := "java/lang/Object", name := "<init>", desc := "()V" } : Jvm.MethodName) object_method_1_code (1 : Nat) (Option.none : Option Jvm.ClassFile.FieldType)) ∈ lw_all := lw_g (lw_at lw_m1 74 rfl) rfl
theorem q677 : (Jvm.Cond.native ({ cls := "java/lang/Object", name := "clone", desc := "()Ljava/lang/Object;" } : Jvm.MethodName)) ∈ lw_all := lw_g (lw_at lw_m3 101 rfl) rfl
theorem q678 : (Jvm.Cond.instanceMethod ({ cls := "java/lang/Object", name := "clone", desc := "()Ljava/lang/Object;" } : Jvm.MethodName)) ∈ lw_all := lw_g (lw_at lw_m3 102 rfl) rfl
theorem q1060 : (Jvm.Cond.instanceMethod ({ cls := "java/lang/Object", name := "getClass", desc := "()Ljava/lang/Class;" } : Jvm.MethodName)) ∈ lw_all := lw_g (lw_at lw_m5 4 rfl) rfl
theorem q1061 : (Jvm.Cond.sameMethod "java/lang/Object" "java/lang/Object" "getClass" "()Ljava/lang/Class;") ∈ lw_all := lw_g (lw_at lw_m5 5 rfl) rfl
theorem q1104 : (Jvm.Cond.native ({ cls := "java/lang/Object", name := "getClass", desc := "()Ljava/lang/Class;" } : Jvm.MethodName)) ∈ lw_all := lw_g (lw_at lw_m5 48 rfl) rfl
theorem q1802 : (Jvm.Cond.declares ({ cls := "java/lang/Object", name := "equals", desc := "(Ljava/lang/Object;)Z" } : Jvm.MethodName)) ∈ lw_tbl := lw_at lw_m8 26 rfl
theorem q1804 : (Jvm.Cond.instanceMethod ({ cls := "java/lang/Object", name := "equals", desc := "(Ljava/lang/Object;)Z" } : Jvm.MethodName)) ∈ lw_all := lw_g (lw_at lw_m8 28 rfl) rfl
theorem q1805 : (Jvm.Cond.sameMethod "java/lang/Object" "java/lang/Object" "equals" "(Ljava/lang/Object;)Z") ∈ lw_all := lw_g (lw_at lw_m8 29 rfl) rfl
theorem q1842 : (Jvm.Cond.code ({ cls := "java/lang/Object", name := "equals", desc := "(Ljava/lang/Object;)Z" } : Jvm.MethodName) object_method_4_code (2 : Nat) (Option.some Jvm.ClassFile.FieldType.boolean)) ∈ lw_all := lw_g (lw_at lw_m8 66 rfl) rfl
theorem q3301 : (Jvm.Cond.initialized "java/lang/Object") ∈ lw_all := lw_g (lw_at lw_m14 85 rfl) rfl
theorem q3356 : (Jvm.Cond.declares ({ cls := "java/lang/Object", name := "getClass", desc := "()Ljava/lang/Class;" } : Jvm.MethodName)) ∈ lw_tbl := lw_at lw_m14 140 rfl
theorem q3371 : (Jvm.Cond.instantiable "java/lang/Object" (0 : Nat)) ∈ lw_all := lw_g (lw_at lw_m14 155 rfl) rfl
theorem q1862 : (Jvm.Cond.interfaceMethod "CreditBroker$Which" "CreditBroker$Which" "is" "(LCreditBroker$Letter;)Z") ∈ lw_tbl := lw_at lw_m8 86 rfl
theorem q1863 : (Jvm.Cond.declares ({ cls := "CreditBroker$Which", name := "is", desc := "(LCreditBroker$Letter;)Z" } : Jvm.MethodName)) ∈ lw_tbl := lw_at lw_m8 87 rfl
theorem q2824 : (Jvm.Cond.interfaceMethod "CreditBroker$Tally" "CreditBroker$Tally" "of" "(LCreditBroker$Queue;)I") ∈ lw_tbl := lw_at lw_m12 88 rfl
theorem q2825 : (Jvm.Cond.declares ({ cls := "CreditBroker$Tally", name := "of", desc := "(LCreditBroker$Queue;)I" } : Jvm.MethodName)) ∈ lw_tbl := lw_at lw_m12 89 rfl
theorem q3357 : (Jvm.Cond.castable "[LCreditBroker$Sheet;" "java/lang/Object") ∈ lw_tbl := lw_at lw_m14 141 rfl
theorem q676 : (Jvm.Cond.sameMethod "[B" "java/lang/Object" "clone" "()Ljava/lang/Object;") ∈ lw_all := lw_g (lw_at lw_m3 100 rfl) rfl
theorem q679 : (Jvm.Cond.selects "[B" ({ cls := "[B", name := "clone", desc := "()Ljava/lang/Object;" } : Jvm.MethodName) ({ cls := "java/lang/Object", name := "clone", desc := "()Ljava/lang/Object;" } : Jvm.MethodName)) ∈ lw_all := lw_g (lw_at lw_m3 103 rfl) rfl
theorem q680 : (Jvm.Cond.castable "[B" "java/lang/Cloneable") ∈ lw_tbl := lw_at lw_m3 104 rfl
theorem q3359 : (Jvm.Cond.castable "[B" "java/lang/Object") ∈ lw_tbl := lw_at lw_m14 143 rfl
theorem q3360 : (Jvm.Cond.castable "[S" "java/lang/Object") ∈ lw_tbl := lw_at lw_m14 144 rfl
theorem q3362 : (Jvm.Cond.castable "[Z" "java/lang/Object") ∈ lw_tbl := lw_at lw_m14 146 rfl
theorem q261 : (Jvm.Cond.arrayOver (Jvm.ClassFile.FieldType.object "CreditBroker$Sheet")) ∈ lw_tbl := lw_at lw_m1 165 rfl
theorem q271 : (Jvm.Cond.arrayClass Jvm.ClassFile.FieldType.int) ∈ lw_all := lw_g (lw_at lw_m1 175 rfl) rfl
theorem q387 : (Jvm.Cond.arrayClass Jvm.ClassFile.FieldType.byte) ∈ lw_all := lw_g (lw_at lw_m2 51 rfl) rfl
theorem q405 : (Jvm.Cond.arrayClass Jvm.ClassFile.FieldType.short) ∈ lw_all := lw_g (lw_at lw_m2 69 rfl) rfl
theorem q406 : (Jvm.Cond.arrayClass Jvm.ClassFile.FieldType.long) ∈ lw_all := lw_g (lw_at lw_m2 70 rfl) rfl
theorem q407 : (Jvm.Cond.arrayClass Jvm.ClassFile.FieldType.boolean) ∈ lw_all := lw_g (lw_at lw_m2 71 rfl) rfl
theorem q1109 : (Jvm.Cond.arrayOver (Jvm.ClassFile.FieldType.object "java/lang/Object")) ∈ lw_tbl := lw_at lw_m5 53 rfl
