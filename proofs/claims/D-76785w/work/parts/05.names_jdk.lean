set_option maxRecDepth 100000
/-! java/util/AbstractCollection -/
def RJ0 : String := "java/util/AbstractCollection"
abbrev cJ0_init : ByteArray := prog_54_method_1_code
def yJ0_init : MethodName := ⟨RJ0, "<init>", "()V"⟩
theorem dJ0_init_0 : decode cJ0_init 0 = .ok (.aload_n 0, 1) := by decide +kernel
theorem dJ0_init_1 : decode cJ0_init 1 = .ok (.invokespecial 1, 3) := by decide +kernel
theorem dJ0_init_4 : decode cJ0_init 4 = .ok (.return_, 1) := by decide +kernel
theorem q99 : (Jvm.Cond.initialized "java/util/AbstractCollection") ∈ lw_all := lw_g (lw_at lw_m1 3 rfl) rfl
theorem q186 : (Jvm.Cond.instanceMethod ({ cls := "java/util/AbstractCollection", name := "<init>", desc := "()V" } : Jvm.MethodName)) ∈ lw_all := lw_g (lw_at lw_m1 90 rfl) rfl
theorem q187 : (Jvm.Cond.code ({ cls := "java/util/AbstractCollection", name := "<init>", desc := "()V" } : Jvm.MethodName) prog_54_method_1_code (1 : Nat) (Option.none : Option Jvm.ClassFile.FieldType)) ∈ lw_all := lw_g (lw_at lw_m1 91 rfl) rfl
theorem q188 : (Jvm.Cond.methodLink "java/util/AbstractCollection" (1 : Nat) ({ cls := "java/lang/Object", name := "<init>", desc := "()V" } : Jvm.MethodName)) ∈ lw_all := lw_g (lw_at lw_m1 92 rfl) rfl
theorem q1329 : (Jvm.Cond.declares ({ cls := "java/util/AbstractCollection", name := "size", desc := "()I" } : Jvm.MethodName)) ∈ lw_tbl := lw_at lw_m6 33 rfl
/-! java/util/AbstractList -/
def RJ1 : String := "java/util/AbstractList"
abbrev cJ1_init : ByteArray := prog_55_method_1_code
def yJ1_init : MethodName := ⟨RJ1, "<init>", "()V"⟩
def dkwJ1_init_0 : List UInt8 := [42, 183, 0, 1, 42, 3, 181, 0, 7, 177]
abbrev dktJ1_init_0 : List UInt8 := dkwJ1_init_0 ++ []
theorem dksJ1_init_0 : cJ1_init.data.toList.drop 0 = dktJ1_init_0 := by decide +kernel
theorem dJ1_init_0 : decode cJ1_init 0 = .ok (.aload_n 0, 1) := dk_42 (dk_at dksJ1_init_0 0 rfl rfl)
theorem dJ1_init_1 : decode cJ1_init 1 = .ok (.invokespecial 1, 3) := dk_183 0 1 (dk_at dksJ1_init_0 1 rfl rfl)
theorem dJ1_init_4 : decode cJ1_init 4 = .ok (.aload_n 0, 1) := dk_42 (dk_at dksJ1_init_0 4 rfl rfl)
theorem dJ1_init_5 : decode cJ1_init 5 = .ok (.iconst 0, 1) := dk_3 (dk_at dksJ1_init_0 5 rfl rfl)
theorem dJ1_init_6 : decode cJ1_init 6 = .ok (.putfield 7, 3) := dk_181 0 7 (dk_at dksJ1_init_0 6 rfl rfl)
theorem dJ1_init_9 : decode cJ1_init 9 = .ok (.return_, 1) := dk_177 (dk_at dksJ1_init_0 9 rfl rfl)
abbrev cJ1_listIterator : ByteArray := prog_55_method_12_code
def yJ1_listIterator : MethodName := ⟨RJ1, "listIterator", "()Ljava/util/ListIterator;"⟩
def dkwJ1_listIterator_0 : List UInt8 := [42, 3, 182, 0, 47, 176]
abbrev dktJ1_listIterator_0 : List UInt8 := dkwJ1_listIterator_0 ++ []
theorem dksJ1_listIterator_0 : cJ1_listIterator.data.toList.drop 0 = dktJ1_listIterator_0 := by decide +kernel
theorem dJ1_listIterator_0 : decode cJ1_listIterator 0 = .ok (.aload_n 0, 1) := dk_42 (dk_at dksJ1_listIterator_0 0 rfl rfl)
theorem dJ1_listIterator_1 : decode cJ1_listIterator 1 = .ok (.iconst 0, 1) := dk_3 (dk_at dksJ1_listIterator_0 1 rfl rfl)
theorem dJ1_listIterator_2 : decode cJ1_listIterator 2 = .ok (.invokevirtual 47, 3) := dk_182 0 47 (dk_at dksJ1_listIterator_0 2 rfl rfl)
theorem dJ1_listIterator_5 : decode cJ1_listIterator 5 = .ok (.areturn, 1) := dk_176 (dk_at dksJ1_listIterator_0 5 rfl rfl)
theorem q100 : (Jvm.Cond.initialized "java/util/AbstractList") ∈ lw_all := lw_g (lw_at lw_m1 4 rfl) rfl
theorem q183 : (Jvm.Cond.instanceMethod ({ cls := "java/util/AbstractList", name := "<init>", desc := "()V" } : Jvm.MethodName)) ∈ lw_all := lw_g (lw_at lw_m1 87 rfl) rfl
theorem q184 : (Jvm.Cond.code ({ cls := "java/util/AbstractList", name := "<init>", desc := "()V" } : Jvm.MethodName) prog_55_method_1_code (1 : Nat) (Option.none : Option Jvm.ClassFile.FieldType)) ∈ lw_all := lw_g (lw_at lw_m1 88 rfl) rfl
theorem q185 : (Jvm.Cond.methodLink "java/util/AbstractList" (1 : Nat) ({ cls := "java/util/AbstractCollection", name := "<init>", desc := "()V" } : Jvm.MethodName)) ∈ lw_all := lw_g (lw_at lw_m1 89 rfl) rfl
theorem q195 : (Jvm.Cond.fieldLink "java/util/AbstractList" (7 : Nat) "java/util/AbstractList" "modCount" "I") ∈ lw_all := lw_g (lw_at lw_m1 99 rfl) rfl
theorem q208 : (Jvm.Cond.soleField "java/util/AbstractList" "modCount") ∈ lw_all := lw_g (lw_at lw_m1 112 rfl) rfl
theorem q1328 : (Jvm.Cond.sameMethod "java/util/AbstractList" "java/util/AbstractCollection" "size" "()I") ∈ lw_all := lw_g (lw_at lw_m6 32 rfl) rfl
theorem q1378 : (Jvm.Cond.declares ({ cls := "java/util/AbstractList", name := "get", desc := "(I)Ljava/lang/Object;" } : Jvm.MethodName)) ∈ lw_tbl := lw_at lw_m6 82 rfl
theorem q1379 : (Jvm.Cond.sameMethod "java/util/AbstractList" "java/util/AbstractList" "get" "(I)Ljava/lang/Object;") ∈ lw_all := lw_g (lw_at lw_m6 83 rfl) rfl
theorem q2000 : (Jvm.Cond.declares ({ cls := "java/util/AbstractList", name := "listIterator", desc := "()Ljava/util/ListIterator;" } : Jvm.MethodName)) ∈ lw_tbl := lw_at lw_m8 224 rfl
theorem q2002 : (Jvm.Cond.instanceMethod ({ cls := "java/util/AbstractList", name := "listIterator", desc := "()Ljava/util/ListIterator;" } : Jvm.MethodName)) ∈ lw_all := lw_g (lw_at lw_m8 226 rfl) rfl
theorem q2003 : (Jvm.Cond.code ({ cls := "java/util/AbstractList", name := "listIterator", desc := "()Ljava/util/ListIterator;" } : Jvm.MethodName) prog_55_method_12_code (1 : Nat) (Option.some (Jvm.ClassFile.FieldType.object "java/util/ListIterator"))) ∈ lw_all := lw_g (lw_at lw_m8 227 rfl) rfl
theorem q2004 : (Jvm.Cond.methodLink "java/util/AbstractList" (47 : Nat) ({ cls := "java/util/AbstractList", name := "listIterator", desc := "(I)Ljava/util/ListIterator;" } : Jvm.MethodName)) ∈ lw_all := lw_g (lw_at lw_m8 228 rfl) rfl
theorem q2005 : (Jvm.Cond.instanceMethod ({ cls := "java/util/AbstractList", name := "listIterator", desc := "(I)Ljava/util/ListIterator;" } : Jvm.MethodName)) ∈ lw_all := lw_g (lw_at lw_m8 229 rfl) rfl
theorem q2006 : (Jvm.Cond.sameMethod "java/util/AbstractList" "java/util/AbstractList" "listIterator" "(I)Ljava/util/ListIterator;") ∈ lw_all := lw_g (lw_at lw_m8 230 rfl) rfl
theorem q2058 : (Jvm.Cond.declares ({ cls := "java/util/AbstractList", name := "listIterator", desc := "(I)Ljava/util/ListIterator;" } : Jvm.MethodName)) ∈ lw_tbl := lw_at lw_m9 42 rfl
theorem q2088 : (Jvm.Cond.instanceMethod ({ cls := "java/util/AbstractList", name := "remove", desc := "(I)Ljava/lang/Object;" } : Jvm.MethodName)) ∈ lw_all := lw_g (lw_at lw_m9 72 rfl) rfl
theorem q2089 : (Jvm.Cond.sameMethod "java/util/AbstractList" "java/util/AbstractList" "remove" "(I)Ljava/lang/Object;") ∈ lw_all := lw_g (lw_at lw_m9 73 rfl) rfl
theorem q2092 : (Jvm.Cond.declares ({ cls := "java/util/AbstractList", name := "remove", desc := "(I)Ljava/lang/Object;" } : Jvm.MethodName)) ∈ lw_tbl := lw_at lw_m9 76 rfl
/-! java/util/ArrayList -/
def RJ2 : String := "java/util/ArrayList"
def TJ2 : u_T := fun k => match k with
  | 0 => ("java/util/AbstractList", "modCount", "I", false)
  | 1 => ("java/util/ArrayList", "elementData", "[Ljava/lang/Object;", false)
  | _ => ("java/util/ArrayList", "size", "I", false)
def tyJ2 : Nat → FieldType := fun k => match k with
  | 0 => .int
  | 1 => .array (.object "java/lang/Object")
  | _ => .int
abbrev wsJ20 : List Cond := u_ws RJ2 TJ2 3
theorem nmJ2 : ∀ a, a < 3 → ∀ b, b < 3 → a ≠ b → (TJ2 a).2.1 ≠ (TJ2 b).2.1 := by decide +kernel
theorem tyJ2_ok : ∀ k, k < 3 → parseFieldDescriptor (TJ2 k).2.2.1 = some (tyJ2 k) := by decide +kernel
abbrev cJ2_init : ByteArray := prog_62_method_2_code
def yJ2_init : MethodName := ⟨RJ2, "<init>", "()V"⟩
def dkwJ2_init_0 : List UInt8 := [42, 183, 0, 1, 42, 178, 0, 39, 181, 0, 9, 177]
abbrev dktJ2_init_0 : List UInt8 := dkwJ2_init_0 ++ []
theorem dksJ2_init_0 : cJ2_init.data.toList.drop 0 = dktJ2_init_0 := by decide +kernel
theorem dJ2_init_0 : decode cJ2_init 0 = .ok (.aload_n 0, 1) := dk_42 (dk_at dksJ2_init_0 0 rfl rfl)
theorem dJ2_init_1 : decode cJ2_init 1 = .ok (.invokespecial 1, 3) := dk_183 0 1 (dk_at dksJ2_init_0 1 rfl rfl)
theorem dJ2_init_4 : decode cJ2_init 4 = .ok (.aload_n 0, 1) := dk_42 (dk_at dksJ2_init_0 4 rfl rfl)
theorem dJ2_init_5 : decode cJ2_init 5 = .ok (.getstatic 39, 3) := dk_178 0 39 (dk_at dksJ2_init_0 5 rfl rfl)
theorem dJ2_init_8 : decode cJ2_init 8 = .ok (.putfield 9, 3) := dk_181 0 9 (dk_at dksJ2_init_0 8 rfl rfl)
theorem dJ2_init_11 : decode cJ2_init 11 = .ok (.return_, 1) := dk_177 (dk_at dksJ2_init_0 11 rfl rfl)
abbrev cJ2_add : ByteArray := prog_62_method_25_code
def yJ2_add : MethodName := ⟨RJ2, "add", "(Ljava/lang/Object;)Z"⟩
def dkwJ2_add_1 : List UInt8 := [172]
abbrev dktJ2_add_1 : List UInt8 := dkwJ2_add_1 ++ []
def dkwJ2_add_0 : List UInt8 := [42, 89, 180, 0, 63, 4, 96, 181, 0, 63, 42, 43, 42, 180, 0, 9, 42, 180, 0, 48, 182, 0, 131, 4]
abbrev dktJ2_add_0 : List UInt8 := dkwJ2_add_0 ++ dktJ2_add_1
theorem dksJ2_add_0 : cJ2_add.data.toList.drop 0 = dktJ2_add_0 := by decide +kernel
theorem dksJ2_add_1 : cJ2_add.data.toList.drop 24 = dktJ2_add_1 := dk_seg dksJ2_add_0 24 rfl rfl
theorem dJ2_add_0 : decode cJ2_add 0 = .ok (.aload_n 0, 1) := dk_42 (dk_at dksJ2_add_0 0 rfl rfl)
theorem dJ2_add_1 : decode cJ2_add 1 = .ok (.dup, 1) := dk_89 (dk_at dksJ2_add_0 1 rfl rfl)
theorem dJ2_add_2 : decode cJ2_add 2 = .ok (.getfield 63, 3) := dk_180 0 63 (dk_at dksJ2_add_0 2 rfl rfl)
theorem dJ2_add_5 : decode cJ2_add 5 = .ok (.iconst 1, 1) := dk_4 (dk_at dksJ2_add_0 5 rfl rfl)
theorem dJ2_add_6 : decode cJ2_add 6 = .ok (.iadd, 1) := dk_96 (dk_at dksJ2_add_0 6 rfl rfl)
theorem dJ2_add_7 : decode cJ2_add 7 = .ok (.putfield 63, 3) := dk_181 0 63 (dk_at dksJ2_add_0 7 rfl rfl)
theorem dJ2_add_10 : decode cJ2_add 10 = .ok (.aload_n 0, 1) := dk_42 (dk_at dksJ2_add_0 10 rfl rfl)
theorem dJ2_add_11 : decode cJ2_add 11 = .ok (.aload_n 1, 1) := dk_43 (dk_at dksJ2_add_0 11 rfl rfl)
theorem dJ2_add_12 : decode cJ2_add 12 = .ok (.aload_n 0, 1) := dk_42 (dk_at dksJ2_add_0 12 rfl rfl)
theorem dJ2_add_13 : decode cJ2_add 13 = .ok (.getfield 9, 3) := dk_180 0 9 (dk_at dksJ2_add_0 13 rfl rfl)
theorem dJ2_add_16 : decode cJ2_add 16 = .ok (.aload_n 0, 1) := dk_42 (dk_at dksJ2_add_0 16 rfl rfl)
theorem dJ2_add_17 : decode cJ2_add 17 = .ok (.getfield 48, 3) := dk_180 0 48 (dk_at dksJ2_add_0 17 rfl rfl)
theorem dJ2_add_20 : decode cJ2_add 20 = .ok (.invokevirtual 131, 3) := dk_182 0 131 (dk_at dksJ2_add_0 20 rfl rfl)
theorem dJ2_add_23 : decode cJ2_add 23 = .ok (.iconst 1, 1) := dk_4 (dk_at dksJ2_add_0 23 rfl rfl)
theorem dJ2_add_24 : decode cJ2_add 24 = .ok (.ireturn, 1) := dk_172 (dk_at dksJ2_add_1 0 rfl rfl)
abbrev cJ2_add_2 : ByteArray := prog_62_method_24_code
def yJ2_add_2 : MethodName := ⟨RJ2, "add", "(Ljava/lang/Object;[Ljava/lang/Object;I)V"⟩
def dkwJ2_add_2_0 : List UInt8 := [29, 44, 190, 160, 0, 8, 42, 182, 0, 129, 77, 44, 29, 43, 83, 42, 29, 4, 96, 181, 0, 48, 177]
abbrev dktJ2_add_2_0 : List UInt8 := dkwJ2_add_2_0 ++ []
theorem dksJ2_add_2_0 : cJ2_add_2.data.toList.drop 0 = dktJ2_add_2_0 := by decide +kernel
theorem dJ2_add_2_0 : decode cJ2_add_2 0 = .ok (.iload_n 3, 1) := dk_29 (dk_at dksJ2_add_2_0 0 rfl rfl)
theorem dJ2_add_2_1 : decode cJ2_add_2 1 = .ok (.aload_n 2, 1) := dk_44 (dk_at dksJ2_add_2_0 1 rfl rfl)
theorem dJ2_add_2_2 : decode cJ2_add_2 2 = .ok (.arraylength, 1) := dk_190 (dk_at dksJ2_add_2_0 2 rfl rfl)
theorem dJ2_add_2_3 : decode cJ2_add_2 3 = .ok (.if_icmp .ne 8, 3) := dk_160 0 8 (dk_at dksJ2_add_2_0 3 rfl rfl)
theorem dJ2_add_2_6 : decode cJ2_add_2 6 = .ok (.aload_n 0, 1) := dk_42 (dk_at dksJ2_add_2_0 6 rfl rfl)
theorem dJ2_add_2_7 : decode cJ2_add_2 7 = .ok (.invokevirtual 129, 3) := dk_182 0 129 (dk_at dksJ2_add_2_0 7 rfl rfl)
theorem dJ2_add_2_10 : decode cJ2_add_2 10 = .ok (.astore_n 2, 1) := dk_77 (dk_at dksJ2_add_2_0 10 rfl rfl)
theorem dJ2_add_2_11 : decode cJ2_add_2 11 = .ok (.aload_n 2, 1) := dk_44 (dk_at dksJ2_add_2_0 11 rfl rfl)
theorem dJ2_add_2_12 : decode cJ2_add_2 12 = .ok (.iload_n 3, 1) := dk_29 (dk_at dksJ2_add_2_0 12 rfl rfl)
theorem dJ2_add_2_13 : decode cJ2_add_2 13 = .ok (.aload_n 1, 1) := dk_43 (dk_at dksJ2_add_2_0 13 rfl rfl)
theorem dJ2_add_2_14 : decode cJ2_add_2 14 = .ok (.aastore, 1) := dk_83 (dk_at dksJ2_add_2_0 14 rfl rfl)
theorem dJ2_add_2_15 : decode cJ2_add_2 15 = .ok (.aload_n 0, 1) := dk_42 (dk_at dksJ2_add_2_0 15 rfl rfl)
theorem dJ2_add_2_16 : decode cJ2_add_2 16 = .ok (.iload_n 3, 1) := dk_29 (dk_at dksJ2_add_2_0 16 rfl rfl)
theorem dJ2_add_2_17 : decode cJ2_add_2 17 = .ok (.iconst 1, 1) := dk_4 (dk_at dksJ2_add_2_0 17 rfl rfl)
theorem dJ2_add_2_18 : decode cJ2_add_2 18 = .ok (.iadd, 1) := dk_96 (dk_at dksJ2_add_2_0 18 rfl rfl)
theorem dJ2_add_2_19 : decode cJ2_add_2 19 = .ok (.putfield 48, 3) := dk_181 0 48 (dk_at dksJ2_add_2_0 19 rfl rfl)
theorem dJ2_add_2_22 : decode cJ2_add_2 22 = .ok (.return_, 1) := dk_177 (dk_at dksJ2_add_2_0 22 rfl rfl)
abbrev cJ2_grow : ByteArray := prog_62_method_7_code
def yJ2_grow : MethodName := ⟨RJ2, "grow", "()[Ljava/lang/Object;"⟩
def dkwJ2_grow_0 : List UInt8 := [42, 42, 180, 0, 48, 4, 96, 182, 0, 69, 176]
abbrev dktJ2_grow_0 : List UInt8 := dkwJ2_grow_0 ++ []
theorem dksJ2_grow_0 : cJ2_grow.data.toList.drop 0 = dktJ2_grow_0 := by decide +kernel
theorem dJ2_grow_0 : decode cJ2_grow 0 = .ok (.aload_n 0, 1) := dk_42 (dk_at dksJ2_grow_0 0 rfl rfl)
theorem dJ2_grow_1 : decode cJ2_grow 1 = .ok (.aload_n 0, 1) := dk_42 (dk_at dksJ2_grow_0 1 rfl rfl)
theorem dJ2_grow_2 : decode cJ2_grow 2 = .ok (.getfield 48, 3) := dk_180 0 48 (dk_at dksJ2_grow_0 2 rfl rfl)
theorem dJ2_grow_5 : decode cJ2_grow 5 = .ok (.iconst 1, 1) := dk_4 (dk_at dksJ2_grow_0 5 rfl rfl)
theorem dJ2_grow_6 : decode cJ2_grow 6 = .ok (.iadd, 1) := dk_96 (dk_at dksJ2_grow_0 6 rfl rfl)
theorem dJ2_grow_7 : decode cJ2_grow 7 = .ok (.invokevirtual 69, 3) := dk_182 0 69 (dk_at dksJ2_grow_0 7 rfl rfl)
theorem dJ2_grow_10 : decode cJ2_grow 10 = .ok (.areturn, 1) := dk_176 (dk_at dksJ2_grow_0 10 rfl rfl)
abbrev cJ2_grow_2 : ByteArray := prog_62_method_6_code
def yJ2_grow_2 : MethodName := ⟨RJ2, "grow", "(I)[Ljava/lang/Object;"⟩
def dkwJ2_grow_2_2 : List UInt8 := [27, 184, 0, 79, 189, 0, 7, 90, 181, 0, 9, 176]
abbrev dktJ2_grow_2_2 : List UInt8 := dkwJ2_grow_2_2 ++ []
def dkwJ2_grow_2_1 : List UInt8 := [28, 4, 122, 184, 0, 73, 62, 42, 42, 180, 0, 9, 29, 184, 0, 66, 90, 181, 0, 9, 176, 42, 16, 10]
abbrev dktJ2_grow_2_1 : List UInt8 := dkwJ2_grow_2_1 ++ dktJ2_grow_2_2
def dkwJ2_grow_2_0 : List UInt8 := [42, 180, 0, 9, 190, 61, 28, 157, 0, 13, 42, 180, 0, 9, 178, 0, 39, 165, 0, 28, 28, 27, 28, 100]
abbrev dktJ2_grow_2_0 : List UInt8 := dkwJ2_grow_2_0 ++ dktJ2_grow_2_1
theorem dksJ2_grow_2_0 : cJ2_grow_2.data.toList.drop 0 = dktJ2_grow_2_0 := by decide +kernel
theorem dksJ2_grow_2_1 : cJ2_grow_2.data.toList.drop 24 = dktJ2_grow_2_1 := dk_seg dksJ2_grow_2_0 24 rfl rfl
theorem dksJ2_grow_2_2 : cJ2_grow_2.data.toList.drop 48 = dktJ2_grow_2_2 := dk_seg dksJ2_grow_2_1 24 rfl rfl
theorem dJ2_grow_2_0 : decode cJ2_grow_2 0 = .ok (.aload_n 0, 1) := dk_42 (dk_at dksJ2_grow_2_0 0 rfl rfl)
theorem dJ2_grow_2_1 : decode cJ2_grow_2 1 = .ok (.getfield 9, 3) := dk_180 0 9 (dk_at dksJ2_grow_2_0 1 rfl rfl)
theorem dJ2_grow_2_4 : decode cJ2_grow_2 4 = .ok (.arraylength, 1) := dk_190 (dk_at dksJ2_grow_2_0 4 rfl rfl)
theorem dJ2_grow_2_5 : decode cJ2_grow_2 5 = .ok (.istore_n 2, 1) := dk_61 (dk_at dksJ2_grow_2_0 5 rfl rfl)
theorem dJ2_grow_2_6 : decode cJ2_grow_2 6 = .ok (.iload_n 2, 1) := dk_28 (dk_at dksJ2_grow_2_0 6 rfl rfl)
theorem dJ2_grow_2_7 : decode cJ2_grow_2 7 = .ok (.ifCond .gt 13, 3) := dk_157 0 13 (dk_at dksJ2_grow_2_0 7 rfl rfl)
theorem dJ2_grow_2_10 : decode cJ2_grow_2 10 = .ok (.aload_n 0, 1) := dk_42 (dk_at dksJ2_grow_2_0 10 rfl rfl)
theorem dJ2_grow_2_11 : decode cJ2_grow_2 11 = .ok (.getfield 9, 3) := dk_180 0 9 (dk_at dksJ2_grow_2_0 11 rfl rfl)
theorem dJ2_grow_2_14 : decode cJ2_grow_2 14 = .ok (.getstatic 39, 3) := dk_178 0 39 (dk_at dksJ2_grow_2_0 14 rfl rfl)
theorem dJ2_grow_2_17 : decode cJ2_grow_2 17 = .ok (.if_acmp .eq 28, 3) := dk_165 0 28 (dk_at dksJ2_grow_2_0 17 rfl rfl)
theorem dJ2_grow_2_20 : decode cJ2_grow_2 20 = .ok (.iload_n 2, 1) := dk_28 (dk_at dksJ2_grow_2_0 20 rfl rfl)
theorem dJ2_grow_2_21 : decode cJ2_grow_2 21 = .ok (.iload_n 1, 1) := dk_27 (dk_at dksJ2_grow_2_0 21 rfl rfl)
theorem dJ2_grow_2_22 : decode cJ2_grow_2 22 = .ok (.iload_n 2, 1) := dk_28 (dk_at dksJ2_grow_2_0 22 rfl rfl)
theorem dJ2_grow_2_23 : decode cJ2_grow_2 23 = .ok (.isub, 1) := dk_100 (dk_at dksJ2_grow_2_0 23 rfl rfl)
theorem dJ2_grow_2_24 : decode cJ2_grow_2 24 = .ok (.iload_n 2, 1) := dk_28 (dk_at dksJ2_grow_2_1 0 rfl rfl)
theorem dJ2_grow_2_25 : decode cJ2_grow_2 25 = .ok (.iconst 1, 1) := dk_4 (dk_at dksJ2_grow_2_1 1 rfl rfl)
theorem dJ2_grow_2_26 : decode cJ2_grow_2 26 = .ok (.ishr, 1) := dk_122 (dk_at dksJ2_grow_2_1 2 rfl rfl)
theorem dJ2_grow_2_27 : decode cJ2_grow_2 27 = .ok (.invokestatic 73, 3) := dk_184 0 73 (dk_at dksJ2_grow_2_1 3 rfl rfl)
theorem dJ2_grow_2_30 : decode cJ2_grow_2 30 = .ok (.istore_n 3, 1) := dk_62 (dk_at dksJ2_grow_2_1 6 rfl rfl)
theorem dJ2_grow_2_31 : decode cJ2_grow_2 31 = .ok (.aload_n 0, 1) := dk_42 (dk_at dksJ2_grow_2_1 7 rfl rfl)
theorem dJ2_grow_2_32 : decode cJ2_grow_2 32 = .ok (.aload_n 0, 1) := dk_42 (dk_at dksJ2_grow_2_1 8 rfl rfl)
theorem dJ2_grow_2_33 : decode cJ2_grow_2 33 = .ok (.getfield 9, 3) := dk_180 0 9 (dk_at dksJ2_grow_2_1 9 rfl rfl)
theorem dJ2_grow_2_36 : decode cJ2_grow_2 36 = .ok (.iload_n 3, 1) := dk_29 (dk_at dksJ2_grow_2_1 12 rfl rfl)
theorem dJ2_grow_2_37 : decode cJ2_grow_2 37 = .ok (.invokestatic 66, 3) := dk_184 0 66 (dk_at dksJ2_grow_2_1 13 rfl rfl)
theorem dJ2_grow_2_40 : decode cJ2_grow_2 40 = .ok (.dup_x1, 1) := dk_90 (dk_at dksJ2_grow_2_1 16 rfl rfl)
theorem dJ2_grow_2_41 : decode cJ2_grow_2 41 = .ok (.putfield 9, 3) := dk_181 0 9 (dk_at dksJ2_grow_2_1 17 rfl rfl)
theorem dJ2_grow_2_44 : decode cJ2_grow_2 44 = .ok (.areturn, 1) := dk_176 (dk_at dksJ2_grow_2_1 20 rfl rfl)
theorem dJ2_grow_2_45 : decode cJ2_grow_2 45 = .ok (.aload_n 0, 1) := dk_42 (dk_at dksJ2_grow_2_1 21 rfl rfl)
theorem dJ2_grow_2_46 : decode cJ2_grow_2 46 = .ok (.bipush 10, 2) := dk_16 10 (dk_at dksJ2_grow_2_1 22 rfl rfl)
theorem dJ2_grow_2_48 : decode cJ2_grow_2 48 = .ok (.iload_n 1, 1) := dk_27 (dk_at dksJ2_grow_2_2 0 rfl rfl)
theorem dJ2_grow_2_49 : decode cJ2_grow_2 49 = .ok (.invokestatic 79, 3) := dk_184 0 79 (dk_at dksJ2_grow_2_2 1 rfl rfl)
theorem dJ2_grow_2_52 : decode cJ2_grow_2 52 = .ok (.anewarray 7, 3) := dk_189 0 7 (dk_at dksJ2_grow_2_2 4 rfl rfl)
theorem dJ2_grow_2_55 : decode cJ2_grow_2 55 = .ok (.dup_x1, 1) := dk_90 (dk_at dksJ2_grow_2_2 7 rfl rfl)
theorem dJ2_grow_2_56 : decode cJ2_grow_2 56 = .ok (.putfield 9, 3) := dk_181 0 9 (dk_at dksJ2_grow_2_2 8 rfl rfl)
theorem dJ2_grow_2_59 : decode cJ2_grow_2 59 = .ok (.areturn, 1) := dk_176 (dk_at dksJ2_grow_2_2 11 rfl rfl)
abbrev cJ2_size : ByteArray := prog_62_method_8_code
def yJ2_size : MethodName := ⟨RJ2, "size", "()I"⟩
theorem dJ2_size_0 : decode cJ2_size 0 = .ok (.aload_n 0, 1) := by decide +kernel
theorem dJ2_size_1 : decode cJ2_size 1 = .ok (.getfield 48, 3) := by decide +kernel
theorem dJ2_size_4 : decode cJ2_size 4 = .ok (.ireturn, 1) := by decide +kernel
abbrev cJ2_get : ByteArray := prog_62_method_20_code
def yJ2_get : MethodName := ⟨RJ2, "get", "(I)Ljava/lang/Object;"⟩
def dkwJ2_get_0 : List UInt8 := [27, 42, 180, 0, 48, 184, 0, 118, 87, 42, 27, 182, 0, 123, 176]
abbrev dktJ2_get_0 : List UInt8 := dkwJ2_get_0 ++ []
theorem dksJ2_get_0 : cJ2_get.data.toList.drop 0 = dktJ2_get_0 := by decide +kernel
theorem dJ2_get_0 : decode cJ2_get 0 = .ok (.iload_n 1, 1) := dk_27 (dk_at dksJ2_get_0 0 rfl rfl)
theorem dJ2_get_1 : decode cJ2_get 1 = .ok (.aload_n 0, 1) := dk_42 (dk_at dksJ2_get_0 1 rfl rfl)
theorem dJ2_get_2 : decode cJ2_get 2 = .ok (.getfield 48, 3) := dk_180 0 48 (dk_at dksJ2_get_0 2 rfl rfl)
theorem dJ2_get_5 : decode cJ2_get 5 = .ok (.invokestatic 118, 3) := dk_184 0 118 (dk_at dksJ2_get_0 5 rfl rfl)
theorem dJ2_get_8 : decode cJ2_get 8 = .ok (.pop, 1) := dk_87 (dk_at dksJ2_get_0 8 rfl rfl)
theorem dJ2_get_9 : decode cJ2_get 9 = .ok (.aload_n 0, 1) := dk_42 (dk_at dksJ2_get_0 9 rfl rfl)
theorem dJ2_get_10 : decode cJ2_get 10 = .ok (.iload_n 1, 1) := dk_27 (dk_at dksJ2_get_0 10 rfl rfl)
theorem dJ2_get_11 : decode cJ2_get 11 = .ok (.invokevirtual 123, 3) := dk_182 0 123 (dk_at dksJ2_get_0 11 rfl rfl)
theorem dJ2_get_14 : decode cJ2_get 14 = .ok (.areturn, 1) := dk_176 (dk_at dksJ2_get_0 14 rfl rfl)
abbrev cJ2_elementData : ByteArray := prog_62_method_18_code
def yJ2_elementData : MethodName := ⟨RJ2, "elementData", "(I)Ljava/lang/Object;"⟩
def dkwJ2_elementData_0 : List UInt8 := [42, 180, 0, 9, 27, 50, 176]
abbrev dktJ2_elementData_0 : List UInt8 := dkwJ2_elementData_0 ++ []
theorem dksJ2_elementData_0 : cJ2_elementData.data.toList.drop 0 = dktJ2_elementData_0 := by decide +kernel
theorem dJ2_elementData_0 : decode cJ2_elementData 0 = .ok (.aload_n 0, 1) := dk_42 (dk_at dksJ2_elementData_0 0 rfl rfl)
theorem dJ2_elementData_1 : decode cJ2_elementData 1 = .ok (.getfield 9, 3) := dk_180 0 9 (dk_at dksJ2_elementData_0 1 rfl rfl)
theorem dJ2_elementData_4 : decode cJ2_elementData 4 = .ok (.iload_n 1, 1) := dk_27 (dk_at dksJ2_elementData_0 4 rfl rfl)
theorem dJ2_elementData_5 : decode cJ2_elementData 5 = .ok (.aaload, 1) := dk_50 (dk_at dksJ2_elementData_0 5 rfl rfl)
theorem dJ2_elementData_6 : decode cJ2_elementData 6 = .ok (.areturn, 1) := dk_176 (dk_at dksJ2_elementData_0 6 rfl rfl)
abbrev cJ2_iterator : ByteArray := prog_62_method_55_code
def yJ2_iterator : MethodName := ⟨RJ2, "iterator", "()Ljava/util/Iterator;"⟩
def dkwJ2_iterator_0 : List UInt8 := [187, 1, 11, 89, 42, 183, 1, 13, 176]
abbrev dktJ2_iterator_0 : List UInt8 := dkwJ2_iterator_0 ++ []
theorem dksJ2_iterator_0 : cJ2_iterator.data.toList.drop 0 = dktJ2_iterator_0 := by decide +kernel
theorem dJ2_iterator_0 : decode cJ2_iterator 0 = .ok (.new 267, 3) := dk_187 1 11 (dk_at dksJ2_iterator_0 0 rfl rfl)
theorem dJ2_iterator_3 : decode cJ2_iterator 3 = .ok (.dup, 1) := dk_89 (dk_at dksJ2_iterator_0 3 rfl rfl)
theorem dJ2_iterator_4 : decode cJ2_iterator 4 = .ok (.aload_n 0, 1) := dk_42 (dk_at dksJ2_iterator_0 4 rfl rfl)
theorem dJ2_iterator_5 : decode cJ2_iterator 5 = .ok (.invokespecial 269, 3) := dk_183 1 13 (dk_at dksJ2_iterator_0 5 rfl rfl)
theorem dJ2_iterator_8 : decode cJ2_iterator 8 = .ok (.areturn, 1) := dk_176 (dk_at dksJ2_iterator_0 8 rfl rfl)
abbrev cJ2_remove : ByteArray := prog_62_method_38_code
def yJ2_remove : MethodName := ⟨RJ2, "remove", "(Ljava/lang/Object;)Z"⟩
def dkwJ2_remove_3 : List UInt8 := [182, 0, 144, 4, 172]
abbrev dktJ2_remove_3 : List UInt8 := dkwJ2_remove_3 ++ []
def dkwJ2_remove_2 : List UInt8 := [21, 4, 50, 182, 0, 93, 153, 0, 6, 167, 0, 11, 132, 4, 1, 167, 255, 233, 3, 172, 42, 44, 21, 4]
abbrev dktJ2_remove_2 : List UInt8 := dkwJ2_remove_2 ++ dktJ2_remove_3
def dkwJ2_remove_1 : List UInt8 := [21, 4, 50, 199, 0, 6, 167, 0, 37, 132, 4, 1, 167, 255, 237, 21, 4, 29, 162, 0, 23, 43, 44]
abbrev dktJ2_remove_1 : List UInt8 := dkwJ2_remove_1 ++ dktJ2_remove_2
def dkwJ2_remove_0 : List UInt8 := [42, 180, 0, 9, 77, 42, 180, 0, 48, 62, 3, 54, 4, 43, 199, 0, 25, 21, 4, 29, 162, 0, 45, 44]
abbrev dktJ2_remove_0 : List UInt8 := dkwJ2_remove_0 ++ dktJ2_remove_1
theorem dksJ2_remove_0 : cJ2_remove.data.toList.drop 0 = dktJ2_remove_0 := by decide +kernel
theorem dksJ2_remove_1 : cJ2_remove.data.toList.drop 24 = dktJ2_remove_1 := dk_seg dksJ2_remove_0 24 rfl rfl
theorem dksJ2_remove_2 : cJ2_remove.data.toList.drop 47 = dktJ2_remove_2 := dk_seg dksJ2_remove_1 23 rfl rfl
theorem dksJ2_remove_3 : cJ2_remove.data.toList.drop 71 = dktJ2_remove_3 := dk_seg dksJ2_remove_2 24 rfl rfl
theorem dJ2_remove_0 : decode cJ2_remove 0 = .ok (.aload_n 0, 1) := dk_42 (dk_at dksJ2_remove_0 0 rfl rfl)
theorem dJ2_remove_1 : decode cJ2_remove 1 = .ok (.getfield 9, 3) := dk_180 0 9 (dk_at dksJ2_remove_0 1 rfl rfl)
theorem dJ2_remove_4 : decode cJ2_remove 4 = .ok (.astore_n 2, 1) := dk_77 (dk_at dksJ2_remove_0 4 rfl rfl)
theorem dJ2_remove_5 : decode cJ2_remove 5 = .ok (.aload_n 0, 1) := dk_42 (dk_at dksJ2_remove_0 5 rfl rfl)
theorem dJ2_remove_6 : decode cJ2_remove 6 = .ok (.getfield 48, 3) := dk_180 0 48 (dk_at dksJ2_remove_0 6 rfl rfl)
theorem dJ2_remove_9 : decode cJ2_remove 9 = .ok (.istore_n 3, 1) := dk_62 (dk_at dksJ2_remove_0 9 rfl rfl)
theorem dJ2_remove_10 : decode cJ2_remove 10 = .ok (.iconst 0, 1) := dk_3 (dk_at dksJ2_remove_0 10 rfl rfl)
theorem dJ2_remove_11 : decode cJ2_remove 11 = .ok (.istore 4, 2) := dk_54 4 (dk_at dksJ2_remove_0 11 rfl rfl)
theorem dJ2_remove_13 : decode cJ2_remove 13 = .ok (.aload_n 1, 1) := dk_43 (dk_at dksJ2_remove_0 13 rfl rfl)
theorem dJ2_remove_14 : decode cJ2_remove 14 = .ok (.ifnonnull 25, 3) := dk_199 0 25 (dk_at dksJ2_remove_0 14 rfl rfl)
theorem dJ2_remove_17 : decode cJ2_remove 17 = .ok (.iload 4, 2) := dk_21 4 (dk_at dksJ2_remove_0 17 rfl rfl)
theorem dJ2_remove_19 : decode cJ2_remove 19 = .ok (.iload_n 3, 1) := dk_29 (dk_at dksJ2_remove_0 19 rfl rfl)
theorem dJ2_remove_20 : decode cJ2_remove 20 = .ok (.if_icmp .ge 45, 3) := dk_162 0 45 (dk_at dksJ2_remove_0 20 rfl rfl)
theorem dJ2_remove_23 : decode cJ2_remove 23 = .ok (.aload_n 2, 1) := dk_44 (dk_at dksJ2_remove_0 23 rfl rfl)
theorem dJ2_remove_24 : decode cJ2_remove 24 = .ok (.iload 4, 2) := dk_21 4 (dk_at dksJ2_remove_1 0 rfl rfl)
theorem dJ2_remove_26 : decode cJ2_remove 26 = .ok (.aaload, 1) := dk_50 (dk_at dksJ2_remove_1 2 rfl rfl)
theorem dJ2_remove_27 : decode cJ2_remove 27 = .ok (.ifnonnull 6, 3) := dk_199 0 6 (dk_at dksJ2_remove_1 3 rfl rfl)
theorem dJ2_remove_30 : decode cJ2_remove 30 = .ok (.goto 37, 3) := dk_167 0 37 (dk_at dksJ2_remove_1 6 rfl rfl)
theorem dJ2_remove_33 : decode cJ2_remove 33 = .ok (.iinc 4 1, 3) := dk_132 4 1 (dk_at dksJ2_remove_1 9 rfl rfl)
theorem dJ2_remove_36 : decode cJ2_remove 36 = .ok (.goto (-19), 3) := dk_167 255 237 (dk_at dksJ2_remove_1 12 rfl rfl)
theorem dJ2_remove_39 : decode cJ2_remove 39 = .ok (.iload 4, 2) := dk_21 4 (dk_at dksJ2_remove_1 15 rfl rfl)
theorem dJ2_remove_41 : decode cJ2_remove 41 = .ok (.iload_n 3, 1) := dk_29 (dk_at dksJ2_remove_1 17 rfl rfl)
theorem dJ2_remove_42 : decode cJ2_remove 42 = .ok (.if_icmp .ge 23, 3) := dk_162 0 23 (dk_at dksJ2_remove_1 18 rfl rfl)
theorem dJ2_remove_45 : decode cJ2_remove 45 = .ok (.aload_n 1, 1) := dk_43 (dk_at dksJ2_remove_1 21 rfl rfl)
theorem dJ2_remove_46 : decode cJ2_remove 46 = .ok (.aload_n 2, 1) := dk_44 (dk_at dksJ2_remove_1 22 rfl rfl)
theorem dJ2_remove_47 : decode cJ2_remove 47 = .ok (.iload 4, 2) := dk_21 4 (dk_at dksJ2_remove_2 0 rfl rfl)
theorem dJ2_remove_49 : decode cJ2_remove 49 = .ok (.aaload, 1) := dk_50 (dk_at dksJ2_remove_2 2 rfl rfl)
theorem dJ2_remove_50 : decode cJ2_remove 50 = .ok (.invokevirtual 93, 3) := dk_182 0 93 (dk_at dksJ2_remove_2 3 rfl rfl)
theorem dJ2_remove_53 : decode cJ2_remove 53 = .ok (.ifCond .eq 6, 3) := dk_153 0 6 (dk_at dksJ2_remove_2 6 rfl rfl)
theorem dJ2_remove_56 : decode cJ2_remove 56 = .ok (.goto 11, 3) := dk_167 0 11 (dk_at dksJ2_remove_2 9 rfl rfl)
theorem dJ2_remove_59 : decode cJ2_remove 59 = .ok (.iinc 4 1, 3) := dk_132 4 1 (dk_at dksJ2_remove_2 12 rfl rfl)
theorem dJ2_remove_62 : decode cJ2_remove 62 = .ok (.goto (-23), 3) := dk_167 255 233 (dk_at dksJ2_remove_2 15 rfl rfl)
theorem dJ2_remove_65 : decode cJ2_remove 65 = .ok (.iconst 0, 1) := dk_3 (dk_at dksJ2_remove_2 18 rfl rfl)
theorem dJ2_remove_66 : decode cJ2_remove 66 = .ok (.ireturn, 1) := dk_172 (dk_at dksJ2_remove_2 19 rfl rfl)
theorem dJ2_remove_67 : decode cJ2_remove 67 = .ok (.aload_n 0, 1) := dk_42 (dk_at dksJ2_remove_2 20 rfl rfl)
theorem dJ2_remove_68 : decode cJ2_remove 68 = .ok (.aload_n 2, 1) := dk_44 (dk_at dksJ2_remove_2 21 rfl rfl)
theorem dJ2_remove_69 : decode cJ2_remove 69 = .ok (.iload 4, 2) := dk_21 4 (dk_at dksJ2_remove_2 22 rfl rfl)
theorem dJ2_remove_71 : decode cJ2_remove 71 = .ok (.invokevirtual 144, 3) := dk_182 0 144 (dk_at dksJ2_remove_3 0 rfl rfl)
theorem dJ2_remove_74 : decode cJ2_remove 74 = .ok (.iconst 1, 1) := dk_4 (dk_at dksJ2_remove_3 3 rfl rfl)
theorem dJ2_remove_75 : decode cJ2_remove 75 = .ok (.ireturn, 1) := dk_172 (dk_at dksJ2_remove_3 4 rfl rfl)
abbrev cJ2_fastRemove : ByteArray := prog_62_method_39_code
def yJ2_fastRemove : MethodName := ⟨RJ2, "fastRemove", "([Ljava/lang/Object;I)V"⟩
def dkwJ2_fastRemove_1 : List UInt8 := [4, 96, 43, 28, 29, 28, 100, 184, 0, 112, 43, 42, 29, 90, 181, 0, 48, 1, 83, 177]
abbrev dktJ2_fastRemove_1 : List UInt8 := dkwJ2_fastRemove_1 ++ []
def dkwJ2_fastRemove_0 : List UInt8 := [42, 89, 180, 0, 63, 4, 96, 181, 0, 63, 42, 180, 0, 48, 4, 100, 89, 62, 28, 164, 0, 15, 43, 28]
abbrev dktJ2_fastRemove_0 : List UInt8 := dkwJ2_fastRemove_0 ++ dktJ2_fastRemove_1
theorem dksJ2_fastRemove_0 : cJ2_fastRemove.data.toList.drop 0 = dktJ2_fastRemove_0 := by decide +kernel
theorem dksJ2_fastRemove_1 : cJ2_fastRemove.data.toList.drop 24 = dktJ2_fastRemove_1 := dk_seg dksJ2_fastRemove_0 24 rfl rfl
theorem dJ2_fastRemove_0 : decode cJ2_fastRemove 0 = .ok (.aload_n 0, 1) := dk_42 (dk_at dksJ2_fastRemove_0 0 rfl rfl)
theorem dJ2_fastRemove_1 : decode cJ2_fastRemove 1 = .ok (.dup, 1) := dk_89 (dk_at dksJ2_fastRemove_0 1 rfl rfl)
theorem dJ2_fastRemove_2 : decode cJ2_fastRemove 2 = .ok (.getfield 63, 3) := dk_180 0 63 (dk_at dksJ2_fastRemove_0 2 rfl rfl)
theorem dJ2_fastRemove_5 : decode cJ2_fastRemove 5 = .ok (.iconst 1, 1) := dk_4 (dk_at dksJ2_fastRemove_0 5 rfl rfl)
theorem dJ2_fastRemove_6 : decode cJ2_fastRemove 6 = .ok (.iadd, 1) := dk_96 (dk_at dksJ2_fastRemove_0 6 rfl rfl)
theorem dJ2_fastRemove_7 : decode cJ2_fastRemove 7 = .ok (.putfield 63, 3) := dk_181 0 63 (dk_at dksJ2_fastRemove_0 7 rfl rfl)
theorem dJ2_fastRemove_10 : decode cJ2_fastRemove 10 = .ok (.aload_n 0, 1) := dk_42 (dk_at dksJ2_fastRemove_0 10 rfl rfl)
theorem dJ2_fastRemove_11 : decode cJ2_fastRemove 11 = .ok (.getfield 48, 3) := dk_180 0 48 (dk_at dksJ2_fastRemove_0 11 rfl rfl)
theorem dJ2_fastRemove_14 : decode cJ2_fastRemove 14 = .ok (.iconst 1, 1) := dk_4 (dk_at dksJ2_fastRemove_0 14 rfl rfl)
theorem dJ2_fastRemove_15 : decode cJ2_fastRemove 15 = .ok (.isub, 1) := dk_100 (dk_at dksJ2_fastRemove_0 15 rfl rfl)
theorem dJ2_fastRemove_16 : decode cJ2_fastRemove 16 = .ok (.dup, 1) := dk_89 (dk_at dksJ2_fastRemove_0 16 rfl rfl)
theorem dJ2_fastRemove_17 : decode cJ2_fastRemove 17 = .ok (.istore_n 3, 1) := dk_62 (dk_at dksJ2_fastRemove_0 17 rfl rfl)
theorem dJ2_fastRemove_18 : decode cJ2_fastRemove 18 = .ok (.iload_n 2, 1) := dk_28 (dk_at dksJ2_fastRemove_0 18 rfl rfl)
theorem dJ2_fastRemove_19 : decode cJ2_fastRemove 19 = .ok (.if_icmp .le 15, 3) := dk_164 0 15 (dk_at dksJ2_fastRemove_0 19 rfl rfl)
theorem dJ2_fastRemove_22 : decode cJ2_fastRemove 22 = .ok (.aload_n 1, 1) := dk_43 (dk_at dksJ2_fastRemove_0 22 rfl rfl)
theorem dJ2_fastRemove_23 : decode cJ2_fastRemove 23 = .ok (.iload_n 2, 1) := dk_28 (dk_at dksJ2_fastRemove_0 23 rfl rfl)
theorem dJ2_fastRemove_24 : decode cJ2_fastRemove 24 = .ok (.iconst 1, 1) := dk_4 (dk_at dksJ2_fastRemove_1 0 rfl rfl)
theorem dJ2_fastRemove_25 : decode cJ2_fastRemove 25 = .ok (.iadd, 1) := dk_96 (dk_at dksJ2_fastRemove_1 1 rfl rfl)
theorem dJ2_fastRemove_26 : decode cJ2_fastRemove 26 = .ok (.aload_n 1, 1) := dk_43 (dk_at dksJ2_fastRemove_1 2 rfl rfl)
theorem dJ2_fastRemove_27 : decode cJ2_fastRemove 27 = .ok (.iload_n 2, 1) := dk_28 (dk_at dksJ2_fastRemove_1 3 rfl rfl)
theorem dJ2_fastRemove_28 : decode cJ2_fastRemove 28 = .ok (.iload_n 3, 1) := dk_29 (dk_at dksJ2_fastRemove_1 4 rfl rfl)
theorem dJ2_fastRemove_29 : decode cJ2_fastRemove 29 = .ok (.iload_n 2, 1) := dk_28 (dk_at dksJ2_fastRemove_1 5 rfl rfl)
theorem dJ2_fastRemove_30 : decode cJ2_fastRemove 30 = .ok (.isub, 1) := dk_100 (dk_at dksJ2_fastRemove_1 6 rfl rfl)
theorem dJ2_fastRemove_31 : decode cJ2_fastRemove 31 = .ok (.invokestatic 112, 3) := dk_184 0 112 (dk_at dksJ2_fastRemove_1 7 rfl rfl)
theorem dJ2_fastRemove_34 : decode cJ2_fastRemove 34 = .ok (.aload_n 1, 1) := dk_43 (dk_at dksJ2_fastRemove_1 10 rfl rfl)
theorem dJ2_fastRemove_35 : decode cJ2_fastRemove 35 = .ok (.aload_n 0, 1) := dk_42 (dk_at dksJ2_fastRemove_1 11 rfl rfl)
theorem dJ2_fastRemove_36 : decode cJ2_fastRemove 36 = .ok (.iload_n 3, 1) := dk_29 (dk_at dksJ2_fastRemove_1 12 rfl rfl)
theorem dJ2_fastRemove_37 : decode cJ2_fastRemove 37 = .ok (.dup_x1, 1) := dk_90 (dk_at dksJ2_fastRemove_1 13 rfl rfl)
theorem dJ2_fastRemove_38 : decode cJ2_fastRemove 38 = .ok (.putfield 48, 3) := dk_181 0 48 (dk_at dksJ2_fastRemove_1 14 rfl rfl)
theorem dJ2_fastRemove_41 : decode cJ2_fastRemove 41 = .ok (.aconst_null, 1) := dk_1 (dk_at dksJ2_fastRemove_1 17 rfl rfl)
theorem dJ2_fastRemove_42 : decode cJ2_fastRemove 42 = .ok (.aastore, 1) := dk_83 (dk_at dksJ2_fastRemove_1 18 rfl rfl)
theorem dJ2_fastRemove_43 : decode cJ2_fastRemove 43 = .ok (.return_, 1) := dk_177 (dk_at dksJ2_fastRemove_1 19 rfl rfl)
abbrev cJ2_remove_2 : ByteArray := prog_62_method_29_code
def yJ2_remove_2 : MethodName := ⟨RJ2, "remove", "(I)Ljava/lang/Object;"⟩
def dkwJ2_remove_2_1 : List UInt8 := [45, 176]
abbrev dktJ2_remove_2_1 : List UInt8 := dkwJ2_remove_2_1 ++ []
def dkwJ2_remove_2_0 : List UInt8 := [27, 42, 180, 0, 48, 184, 0, 118, 87, 42, 180, 0, 9, 77, 44, 27, 50, 78, 42, 44, 27, 182, 0, 144]
abbrev dktJ2_remove_2_0 : List UInt8 := dkwJ2_remove_2_0 ++ dktJ2_remove_2_1
theorem dksJ2_remove_2_0 : cJ2_remove_2.data.toList.drop 0 = dktJ2_remove_2_0 := by decide +kernel
theorem dksJ2_remove_2_1 : cJ2_remove_2.data.toList.drop 24 = dktJ2_remove_2_1 := dk_seg dksJ2_remove_2_0 24 rfl rfl
theorem dJ2_remove_2_0 : decode cJ2_remove_2 0 = .ok (.iload_n 1, 1) := dk_27 (dk_at dksJ2_remove_2_0 0 rfl rfl)
theorem dJ2_remove_2_1 : decode cJ2_remove_2 1 = .ok (.aload_n 0, 1) := dk_42 (dk_at dksJ2_remove_2_0 1 rfl rfl)
theorem dJ2_remove_2_2 : decode cJ2_remove_2 2 = .ok (.getfield 48, 3) := dk_180 0 48 (dk_at dksJ2_remove_2_0 2 rfl rfl)
theorem dJ2_remove_2_5 : decode cJ2_remove_2 5 = .ok (.invokestatic 118, 3) := dk_184 0 118 (dk_at dksJ2_remove_2_0 5 rfl rfl)
theorem dJ2_remove_2_8 : decode cJ2_remove_2 8 = .ok (.pop, 1) := dk_87 (dk_at dksJ2_remove_2_0 8 rfl rfl)
theorem dJ2_remove_2_9 : decode cJ2_remove_2 9 = .ok (.aload_n 0, 1) := dk_42 (dk_at dksJ2_remove_2_0 9 rfl rfl)
theorem dJ2_remove_2_10 : decode cJ2_remove_2 10 = .ok (.getfield 9, 3) := dk_180 0 9 (dk_at dksJ2_remove_2_0 10 rfl rfl)
theorem dJ2_remove_2_13 : decode cJ2_remove_2 13 = .ok (.astore_n 2, 1) := dk_77 (dk_at dksJ2_remove_2_0 13 rfl rfl)
theorem dJ2_remove_2_14 : decode cJ2_remove_2 14 = .ok (.aload_n 2, 1) := dk_44 (dk_at dksJ2_remove_2_0 14 rfl rfl)
theorem dJ2_remove_2_15 : decode cJ2_remove_2 15 = .ok (.iload_n 1, 1) := dk_27 (dk_at dksJ2_remove_2_0 15 rfl rfl)
theorem dJ2_remove_2_16 : decode cJ2_remove_2 16 = .ok (.aaload, 1) := dk_50 (dk_at dksJ2_remove_2_0 16 rfl rfl)
theorem dJ2_remove_2_17 : decode cJ2_remove_2 17 = .ok (.astore_n 3, 1) := dk_78 (dk_at dksJ2_remove_2_0 17 rfl rfl)
theorem dJ2_remove_2_18 : decode cJ2_remove_2 18 = .ok (.aload_n 0, 1) := dk_42 (dk_at dksJ2_remove_2_0 18 rfl rfl)
theorem dJ2_remove_2_19 : decode cJ2_remove_2 19 = .ok (.aload_n 2, 1) := dk_44 (dk_at dksJ2_remove_2_0 19 rfl rfl)
theorem dJ2_remove_2_20 : decode cJ2_remove_2 20 = .ok (.iload_n 1, 1) := dk_27 (dk_at dksJ2_remove_2_0 20 rfl rfl)
theorem dJ2_remove_2_21 : decode cJ2_remove_2 21 = .ok (.invokevirtual 144, 3) := dk_182 0 144 (dk_at dksJ2_remove_2_0 21 rfl rfl)
theorem dJ2_remove_2_24 : decode cJ2_remove_2 24 = .ok (.aload_n 3, 1) := dk_45 (dk_at dksJ2_remove_2_1 0 rfl rfl)
theorem dJ2_remove_2_25 : decode cJ2_remove_2 25 = .ok (.areturn, 1) := dk_176 (dk_at dksJ2_remove_2_1 1 rfl rfl)
abbrev cJ2_add_3 : ByteArray := prog_62_method_26_code
def yJ2_add_3 : MethodName := ⟨RJ2, "add", "(ILjava/lang/Object;)V"⟩
def dkwJ2_add_3_2 : List UInt8 := [29, 27, 100, 184, 0, 112, 25, 4, 27, 44, 83, 42, 29, 4, 96, 181, 0, 48, 177]
abbrev dktJ2_add_3_2 : List UInt8 := dkwJ2_add_3_2 ++ []
def dkwJ2_add_3_1 : List UInt8 := [180, 0, 9, 89, 58, 4, 190, 160, 0, 9, 42, 182, 0, 129, 58, 4, 25, 4, 27, 25, 4, 27, 4, 96]
abbrev dktJ2_add_3_1 : List UInt8 := dkwJ2_add_3_1 ++ dktJ2_add_3_2
def dkwJ2_add_3_0 : List UInt8 := [42, 27, 182, 0, 135, 42, 89, 180, 0, 63, 4, 96, 181, 0, 63, 42, 180, 0, 48, 89, 62, 42]
abbrev dktJ2_add_3_0 : List UInt8 := dkwJ2_add_3_0 ++ dktJ2_add_3_1
theorem dksJ2_add_3_0 : cJ2_add_3.data.toList.drop 0 = dktJ2_add_3_0 := by decide +kernel
theorem dksJ2_add_3_1 : cJ2_add_3.data.toList.drop 22 = dktJ2_add_3_1 := dk_seg dksJ2_add_3_0 22 rfl rfl
theorem dksJ2_add_3_2 : cJ2_add_3.data.toList.drop 46 = dktJ2_add_3_2 := dk_seg dksJ2_add_3_1 24 rfl rfl
theorem dJ2_add_3_0 : decode cJ2_add_3 0 = .ok (.aload_n 0, 1) := dk_42 (dk_at dksJ2_add_3_0 0 rfl rfl)
theorem dJ2_add_3_1 : decode cJ2_add_3 1 = .ok (.iload_n 1, 1) := dk_27 (dk_at dksJ2_add_3_0 1 rfl rfl)
theorem dJ2_add_3_2 : decode cJ2_add_3 2 = .ok (.invokevirtual 135, 3) := dk_182 0 135 (dk_at dksJ2_add_3_0 2 rfl rfl)
theorem dJ2_add_3_5 : decode cJ2_add_3 5 = .ok (.aload_n 0, 1) := dk_42 (dk_at dksJ2_add_3_0 5 rfl rfl)
theorem dJ2_add_3_6 : decode cJ2_add_3 6 = .ok (.dup, 1) := dk_89 (dk_at dksJ2_add_3_0 6 rfl rfl)
theorem dJ2_add_3_7 : decode cJ2_add_3 7 = .ok (.getfield 63, 3) := dk_180 0 63 (dk_at dksJ2_add_3_0 7 rfl rfl)
theorem dJ2_add_3_10 : decode cJ2_add_3 10 = .ok (.iconst 1, 1) := dk_4 (dk_at dksJ2_add_3_0 10 rfl rfl)
theorem dJ2_add_3_11 : decode cJ2_add_3 11 = .ok (.iadd, 1) := dk_96 (dk_at dksJ2_add_3_0 11 rfl rfl)
theorem dJ2_add_3_12 : decode cJ2_add_3 12 = .ok (.putfield 63, 3) := dk_181 0 63 (dk_at dksJ2_add_3_0 12 rfl rfl)
theorem dJ2_add_3_15 : decode cJ2_add_3 15 = .ok (.aload_n 0, 1) := dk_42 (dk_at dksJ2_add_3_0 15 rfl rfl)
theorem dJ2_add_3_16 : decode cJ2_add_3 16 = .ok (.getfield 48, 3) := dk_180 0 48 (dk_at dksJ2_add_3_0 16 rfl rfl)
theorem dJ2_add_3_19 : decode cJ2_add_3 19 = .ok (.dup, 1) := dk_89 (dk_at dksJ2_add_3_0 19 rfl rfl)
theorem dJ2_add_3_20 : decode cJ2_add_3 20 = .ok (.istore_n 3, 1) := dk_62 (dk_at dksJ2_add_3_0 20 rfl rfl)
theorem dJ2_add_3_21 : decode cJ2_add_3 21 = .ok (.aload_n 0, 1) := dk_42 (dk_at dksJ2_add_3_0 21 rfl rfl)
theorem dJ2_add_3_22 : decode cJ2_add_3 22 = .ok (.getfield 9, 3) := dk_180 0 9 (dk_at dksJ2_add_3_1 0 rfl rfl)
theorem dJ2_add_3_25 : decode cJ2_add_3 25 = .ok (.dup, 1) := dk_89 (dk_at dksJ2_add_3_1 3 rfl rfl)
theorem dJ2_add_3_26 : decode cJ2_add_3 26 = .ok (.astore 4, 2) := dk_58 4 (dk_at dksJ2_add_3_1 4 rfl rfl)
theorem dJ2_add_3_28 : decode cJ2_add_3 28 = .ok (.arraylength, 1) := dk_190 (dk_at dksJ2_add_3_1 6 rfl rfl)
theorem dJ2_add_3_29 : decode cJ2_add_3 29 = .ok (.if_icmp .ne 9, 3) := dk_160 0 9 (dk_at dksJ2_add_3_1 7 rfl rfl)
theorem dJ2_add_3_32 : decode cJ2_add_3 32 = .ok (.aload_n 0, 1) := dk_42 (dk_at dksJ2_add_3_1 10 rfl rfl)
theorem dJ2_add_3_33 : decode cJ2_add_3 33 = .ok (.invokevirtual 129, 3) := dk_182 0 129 (dk_at dksJ2_add_3_1 11 rfl rfl)
theorem dJ2_add_3_36 : decode cJ2_add_3 36 = .ok (.astore 4, 2) := dk_58 4 (dk_at dksJ2_add_3_1 14 rfl rfl)
theorem dJ2_add_3_38 : decode cJ2_add_3 38 = .ok (.aload 4, 2) := dk_25 4 (dk_at dksJ2_add_3_1 16 rfl rfl)
theorem dJ2_add_3_40 : decode cJ2_add_3 40 = .ok (.iload_n 1, 1) := dk_27 (dk_at dksJ2_add_3_1 18 rfl rfl)
theorem dJ2_add_3_41 : decode cJ2_add_3 41 = .ok (.aload 4, 2) := dk_25 4 (dk_at dksJ2_add_3_1 19 rfl rfl)
theorem dJ2_add_3_43 : decode cJ2_add_3 43 = .ok (.iload_n 1, 1) := dk_27 (dk_at dksJ2_add_3_1 21 rfl rfl)
theorem dJ2_add_3_44 : decode cJ2_add_3 44 = .ok (.iconst 1, 1) := dk_4 (dk_at dksJ2_add_3_1 22 rfl rfl)
theorem dJ2_add_3_45 : decode cJ2_add_3 45 = .ok (.iadd, 1) := dk_96 (dk_at dksJ2_add_3_1 23 rfl rfl)
theorem dJ2_add_3_46 : decode cJ2_add_3 46 = .ok (.iload_n 3, 1) := dk_29 (dk_at dksJ2_add_3_2 0 rfl rfl)
theorem dJ2_add_3_47 : decode cJ2_add_3 47 = .ok (.iload_n 1, 1) := dk_27 (dk_at dksJ2_add_3_2 1 rfl rfl)
theorem dJ2_add_3_48 : decode cJ2_add_3 48 = .ok (.isub, 1) := dk_100 (dk_at dksJ2_add_3_2 2 rfl rfl)
theorem dJ2_add_3_49 : decode cJ2_add_3 49 = .ok (.invokestatic 112, 3) := dk_184 0 112 (dk_at dksJ2_add_3_2 3 rfl rfl)
theorem dJ2_add_3_52 : decode cJ2_add_3 52 = .ok (.aload 4, 2) := dk_25 4 (dk_at dksJ2_add_3_2 6 rfl rfl)
theorem dJ2_add_3_54 : decode cJ2_add_3 54 = .ok (.iload_n 1, 1) := dk_27 (dk_at dksJ2_add_3_2 8 rfl rfl)
theorem dJ2_add_3_55 : decode cJ2_add_3 55 = .ok (.aload_n 2, 1) := dk_44 (dk_at dksJ2_add_3_2 9 rfl rfl)
theorem dJ2_add_3_56 : decode cJ2_add_3 56 = .ok (.aastore, 1) := dk_83 (dk_at dksJ2_add_3_2 10 rfl rfl)
theorem dJ2_add_3_57 : decode cJ2_add_3 57 = .ok (.aload_n 0, 1) := dk_42 (dk_at dksJ2_add_3_2 11 rfl rfl)
theorem dJ2_add_3_58 : decode cJ2_add_3 58 = .ok (.iload_n 3, 1) := dk_29 (dk_at dksJ2_add_3_2 12 rfl rfl)
theorem dJ2_add_3_59 : decode cJ2_add_3 59 = .ok (.iconst 1, 1) := dk_4 (dk_at dksJ2_add_3_2 13 rfl rfl)
theorem dJ2_add_3_60 : decode cJ2_add_3 60 = .ok (.iadd, 1) := dk_96 (dk_at dksJ2_add_3_2 14 rfl rfl)
theorem dJ2_add_3_61 : decode cJ2_add_3 61 = .ok (.putfield 48, 3) := dk_181 0 48 (dk_at dksJ2_add_3_2 15 rfl rfl)
theorem dJ2_add_3_64 : decode cJ2_add_3 64 = .ok (.return_, 1) := dk_177 (dk_at dksJ2_add_3_2 18 rfl rfl)
abbrev cJ2_rangeCheckForAdd : ByteArray := prog_62_method_45_code
def yJ2_rangeCheckForAdd : MethodName := ⟨RJ2, "rangeCheckForAdd", "(I)V"⟩
def dkwJ2_rangeCheckForAdd_1 : List UInt8 := [191, 177]
abbrev dktJ2_rangeCheckForAdd_1 : List UInt8 := dkwJ2_rangeCheckForAdd_1 ++ []
def dkwJ2_rangeCheckForAdd_0 : List UInt8 := [27, 42, 180, 0, 48, 163, 0, 7, 27, 156, 0, 16, 187, 0, 187, 89, 42, 27, 182, 0, 198, 183, 0, 193]
abbrev dktJ2_rangeCheckForAdd_0 : List UInt8 := dkwJ2_rangeCheckForAdd_0 ++ dktJ2_rangeCheckForAdd_1
theorem dksJ2_rangeCheckForAdd_0 : cJ2_rangeCheckForAdd.data.toList.drop 0 = dktJ2_rangeCheckForAdd_0 := by decide +kernel
theorem dksJ2_rangeCheckForAdd_1 : cJ2_rangeCheckForAdd.data.toList.drop 24 = dktJ2_rangeCheckForAdd_1 := dk_seg dksJ2_rangeCheckForAdd_0 24 rfl rfl
theorem dJ2_rangeCheckForAdd_0 : decode cJ2_rangeCheckForAdd 0 = .ok (.iload_n 1, 1) := dk_27 (dk_at dksJ2_rangeCheckForAdd_0 0 rfl rfl)
theorem dJ2_rangeCheckForAdd_1 : decode cJ2_rangeCheckForAdd 1 = .ok (.aload_n 0, 1) := dk_42 (dk_at dksJ2_rangeCheckForAdd_0 1 rfl rfl)
theorem dJ2_rangeCheckForAdd_2 : decode cJ2_rangeCheckForAdd 2 = .ok (.getfield 48, 3) := dk_180 0 48 (dk_at dksJ2_rangeCheckForAdd_0 2 rfl rfl)
theorem dJ2_rangeCheckForAdd_5 : decode cJ2_rangeCheckForAdd 5 = .ok (.if_icmp .gt 7, 3) := dk_163 0 7 (dk_at dksJ2_rangeCheckForAdd_0 5 rfl rfl)
theorem dJ2_rangeCheckForAdd_8 : decode cJ2_rangeCheckForAdd 8 = .ok (.iload_n 1, 1) := dk_27 (dk_at dksJ2_rangeCheckForAdd_0 8 rfl rfl)
theorem dJ2_rangeCheckForAdd_9 : decode cJ2_rangeCheckForAdd 9 = .ok (.ifCond .ge 16, 3) := dk_156 0 16 (dk_at dksJ2_rangeCheckForAdd_0 9 rfl rfl)
theorem dJ2_rangeCheckForAdd_12 : decode cJ2_rangeCheckForAdd 12 = .ok (.new 187, 3) := dk_187 0 187 (dk_at dksJ2_rangeCheckForAdd_0 12 rfl rfl)
theorem dJ2_rangeCheckForAdd_15 : decode cJ2_rangeCheckForAdd 15 = .ok (.dup, 1) := dk_89 (dk_at dksJ2_rangeCheckForAdd_0 15 rfl rfl)
theorem dJ2_rangeCheckForAdd_16 : decode cJ2_rangeCheckForAdd 16 = .ok (.aload_n 0, 1) := dk_42 (dk_at dksJ2_rangeCheckForAdd_0 16 rfl rfl)
theorem dJ2_rangeCheckForAdd_17 : decode cJ2_rangeCheckForAdd 17 = .ok (.iload_n 1, 1) := dk_27 (dk_at dksJ2_rangeCheckForAdd_0 17 rfl rfl)
theorem dJ2_rangeCheckForAdd_18 : decode cJ2_rangeCheckForAdd 18 = .ok (.invokevirtual 198, 3) := dk_182 0 198 (dk_at dksJ2_rangeCheckForAdd_0 18 rfl rfl)
theorem dJ2_rangeCheckForAdd_21 : decode cJ2_rangeCheckForAdd 21 = .ok (.invokespecial 193, 3) := dk_183 0 193 (dk_at dksJ2_rangeCheckForAdd_0 21 rfl rfl)
theorem dJ2_rangeCheckForAdd_24 : decode cJ2_rangeCheckForAdd 24 = .ok (.athrow, 1) := dk_191 (dk_at dksJ2_rangeCheckForAdd_1 0 rfl rfl)
theorem dJ2_rangeCheckForAdd_25 : decode cJ2_rangeCheckForAdd 25 = .ok (.return_, 1) := dk_177 (dk_at dksJ2_rangeCheckForAdd_1 1 rfl rfl)
abbrev cJ2_outOfBoundsMsg : ByteArray := prog_62_method_46_code
def yJ2_outOfBoundsMsg : MethodName := ⟨RJ2, "outOfBoundsMsg", "(I)Ljava/lang/String;"⟩
def dkwJ2_outOfBoundsMsg_1 : List UInt8 := [180, 0, 48, 182, 0, 29, 182, 0, 32, 176]
abbrev dktJ2_outOfBoundsMsg_1 : List UInt8 := dkwJ2_outOfBoundsMsg_1 ++ []
def dkwJ2_outOfBoundsMsg_0 : List UInt8 := [187, 0, 20, 89, 183, 0, 22, 18, 201, 182, 0, 25, 27, 182, 0, 29, 18, 203, 182, 0, 25, 42]
abbrev dktJ2_outOfBoundsMsg_0 : List UInt8 := dkwJ2_outOfBoundsMsg_0 ++ dktJ2_outOfBoundsMsg_1
theorem dksJ2_outOfBoundsMsg_0 : cJ2_outOfBoundsMsg.data.toList.drop 0 = dktJ2_outOfBoundsMsg_0 := by decide +kernel
theorem dksJ2_outOfBoundsMsg_1 : cJ2_outOfBoundsMsg.data.toList.drop 22 = dktJ2_outOfBoundsMsg_1 := dk_seg dksJ2_outOfBoundsMsg_0 22 rfl rfl
theorem dJ2_outOfBoundsMsg_0 : decode cJ2_outOfBoundsMsg 0 = .ok (.new 20, 3) := dk_187 0 20 (dk_at dksJ2_outOfBoundsMsg_0 0 rfl rfl)
theorem dJ2_outOfBoundsMsg_3 : decode cJ2_outOfBoundsMsg 3 = .ok (.dup, 1) := dk_89 (dk_at dksJ2_outOfBoundsMsg_0 3 rfl rfl)
theorem dJ2_outOfBoundsMsg_4 : decode cJ2_outOfBoundsMsg 4 = .ok (.invokespecial 22, 3) := dk_183 0 22 (dk_at dksJ2_outOfBoundsMsg_0 4 rfl rfl)
theorem dJ2_outOfBoundsMsg_7 : decode cJ2_outOfBoundsMsg 7 = .ok (.ldc 201, 2) := dk_18 201 (dk_at dksJ2_outOfBoundsMsg_0 7 rfl rfl)
theorem dJ2_outOfBoundsMsg_9 : decode cJ2_outOfBoundsMsg 9 = .ok (.invokevirtual 25, 3) := dk_182 0 25 (dk_at dksJ2_outOfBoundsMsg_0 9 rfl rfl)
theorem dJ2_outOfBoundsMsg_12 : decode cJ2_outOfBoundsMsg 12 = .ok (.iload_n 1, 1) := dk_27 (dk_at dksJ2_outOfBoundsMsg_0 12 rfl rfl)
theorem dJ2_outOfBoundsMsg_13 : decode cJ2_outOfBoundsMsg 13 = .ok (.invokevirtual 29, 3) := dk_182 0 29 (dk_at dksJ2_outOfBoundsMsg_0 13 rfl rfl)
theorem dJ2_outOfBoundsMsg_16 : decode cJ2_outOfBoundsMsg 16 = .ok (.ldc 203, 2) := dk_18 203 (dk_at dksJ2_outOfBoundsMsg_0 16 rfl rfl)
theorem dJ2_outOfBoundsMsg_18 : decode cJ2_outOfBoundsMsg 18 = .ok (.invokevirtual 25, 3) := dk_182 0 25 (dk_at dksJ2_outOfBoundsMsg_0 18 rfl rfl)
theorem dJ2_outOfBoundsMsg_21 : decode cJ2_outOfBoundsMsg 21 = .ok (.aload_n 0, 1) := dk_42 (dk_at dksJ2_outOfBoundsMsg_0 21 rfl rfl)
theorem dJ2_outOfBoundsMsg_22 : decode cJ2_outOfBoundsMsg 22 = .ok (.getfield 48, 3) := dk_180 0 48 (dk_at dksJ2_outOfBoundsMsg_1 0 rfl rfl)
theorem dJ2_outOfBoundsMsg_25 : decode cJ2_outOfBoundsMsg 25 = .ok (.invokevirtual 29, 3) := dk_182 0 29 (dk_at dksJ2_outOfBoundsMsg_1 3 rfl rfl)
theorem dJ2_outOfBoundsMsg_28 : decode cJ2_outOfBoundsMsg 28 = .ok (.invokevirtual 32, 3) := dk_182 0 32 (dk_at dksJ2_outOfBoundsMsg_1 6 rfl rfl)
theorem dJ2_outOfBoundsMsg_31 : decode cJ2_outOfBoundsMsg 31 = .ok (.areturn, 1) := dk_176 (dk_at dksJ2_outOfBoundsMsg_1 9 rfl rfl)
abbrev cJ2_listIterator : ByteArray := prog_62_method_53_code
def yJ2_listIterator : MethodName := ⟨RJ2, "listIterator", "(I)Ljava/util/ListIterator;"⟩
def dkwJ2_listIterator_0 : List UInt8 := [42, 27, 182, 0, 135, 187, 1, 6, 89, 42, 27, 183, 1, 8, 176]
abbrev dktJ2_listIterator_0 : List UInt8 := dkwJ2_listIterator_0 ++ []
theorem dksJ2_listIterator_0 : cJ2_listIterator.data.toList.drop 0 = dktJ2_listIterator_0 := by decide +kernel
theorem dJ2_listIterator_0 : decode cJ2_listIterator 0 = .ok (.aload_n 0, 1) := dk_42 (dk_at dksJ2_listIterator_0 0 rfl rfl)
theorem dJ2_listIterator_1 : decode cJ2_listIterator 1 = .ok (.iload_n 1, 1) := dk_27 (dk_at dksJ2_listIterator_0 1 rfl rfl)
theorem dJ2_listIterator_2 : decode cJ2_listIterator 2 = .ok (.invokevirtual 135, 3) := dk_182 0 135 (dk_at dksJ2_listIterator_0 2 rfl rfl)
theorem dJ2_listIterator_5 : decode cJ2_listIterator 5 = .ok (.new 262, 3) := dk_187 1 6 (dk_at dksJ2_listIterator_0 5 rfl rfl)
theorem dJ2_listIterator_8 : decode cJ2_listIterator 8 = .ok (.dup, 1) := dk_89 (dk_at dksJ2_listIterator_0 8 rfl rfl)
theorem dJ2_listIterator_9 : decode cJ2_listIterator 9 = .ok (.aload_n 0, 1) := dk_42 (dk_at dksJ2_listIterator_0 9 rfl rfl)
theorem dJ2_listIterator_10 : decode cJ2_listIterator 10 = .ok (.iload_n 1, 1) := dk_27 (dk_at dksJ2_listIterator_0 10 rfl rfl)
theorem dJ2_listIterator_11 : decode cJ2_listIterator 11 = .ok (.invokespecial 264, 3) := dk_183 1 8 (dk_at dksJ2_listIterator_0 11 rfl rfl)
theorem dJ2_listIterator_14 : decode cJ2_listIterator 14 = .ok (.areturn, 1) := dk_176 (dk_at dksJ2_listIterator_0 14 rfl rfl)
abbrev cJ2_clear : ByteArray := prog_62_method_40_code
def yJ2_clear : MethodName := ⟨RJ2, "clear", "()V"⟩
def dkwJ2_clear_1 : List UInt8 := [181, 0, 48, 62, 29, 28, 162, 0, 13, 43, 29, 1, 83, 132, 3, 1, 167, 255, 244, 177]
abbrev dktJ2_clear_1 : List UInt8 := dkwJ2_clear_1 ++ []
def dkwJ2_clear_0 : List UInt8 := [42, 89, 180, 0, 63, 4, 96, 181, 0, 63, 42, 180, 0, 9, 76, 42, 180, 0, 48, 61, 42, 3, 90]
abbrev dktJ2_clear_0 : List UInt8 := dkwJ2_clear_0 ++ dktJ2_clear_1
theorem dksJ2_clear_0 : cJ2_clear.data.toList.drop 0 = dktJ2_clear_0 := by decide +kernel
theorem dksJ2_clear_1 : cJ2_clear.data.toList.drop 23 = dktJ2_clear_1 := dk_seg dksJ2_clear_0 23 rfl rfl
theorem dJ2_clear_0 : decode cJ2_clear 0 = .ok (.aload_n 0, 1) := dk_42 (dk_at dksJ2_clear_0 0 rfl rfl)
theorem dJ2_clear_1 : decode cJ2_clear 1 = .ok (.dup, 1) := dk_89 (dk_at dksJ2_clear_0 1 rfl rfl)
theorem dJ2_clear_2 : decode cJ2_clear 2 = .ok (.getfield 63, 3) := dk_180 0 63 (dk_at dksJ2_clear_0 2 rfl rfl)
theorem dJ2_clear_5 : decode cJ2_clear 5 = .ok (.iconst 1, 1) := dk_4 (dk_at dksJ2_clear_0 5 rfl rfl)
theorem dJ2_clear_6 : decode cJ2_clear 6 = .ok (.iadd, 1) := dk_96 (dk_at dksJ2_clear_0 6 rfl rfl)
theorem dJ2_clear_7 : decode cJ2_clear 7 = .ok (.putfield 63, 3) := dk_181 0 63 (dk_at dksJ2_clear_0 7 rfl rfl)
theorem dJ2_clear_10 : decode cJ2_clear 10 = .ok (.aload_n 0, 1) := dk_42 (dk_at dksJ2_clear_0 10 rfl rfl)
theorem dJ2_clear_11 : decode cJ2_clear 11 = .ok (.getfield 9, 3) := dk_180 0 9 (dk_at dksJ2_clear_0 11 rfl rfl)
theorem dJ2_clear_14 : decode cJ2_clear 14 = .ok (.astore_n 1, 1) := dk_76 (dk_at dksJ2_clear_0 14 rfl rfl)
theorem dJ2_clear_15 : decode cJ2_clear 15 = .ok (.aload_n 0, 1) := dk_42 (dk_at dksJ2_clear_0 15 rfl rfl)
theorem dJ2_clear_16 : decode cJ2_clear 16 = .ok (.getfield 48, 3) := dk_180 0 48 (dk_at dksJ2_clear_0 16 rfl rfl)
theorem dJ2_clear_19 : decode cJ2_clear 19 = .ok (.istore_n 2, 1) := dk_61 (dk_at dksJ2_clear_0 19 rfl rfl)
theorem dJ2_clear_20 : decode cJ2_clear 20 = .ok (.aload_n 0, 1) := dk_42 (dk_at dksJ2_clear_0 20 rfl rfl)
theorem dJ2_clear_21 : decode cJ2_clear 21 = .ok (.iconst 0, 1) := dk_3 (dk_at dksJ2_clear_0 21 rfl rfl)
theorem dJ2_clear_22 : decode cJ2_clear 22 = .ok (.dup_x1, 1) := dk_90 (dk_at dksJ2_clear_0 22 rfl rfl)
theorem dJ2_clear_23 : decode cJ2_clear 23 = .ok (.putfield 48, 3) := dk_181 0 48 (dk_at dksJ2_clear_1 0 rfl rfl)
theorem dJ2_clear_26 : decode cJ2_clear 26 = .ok (.istore_n 3, 1) := dk_62 (dk_at dksJ2_clear_1 3 rfl rfl)
theorem dJ2_clear_27 : decode cJ2_clear 27 = .ok (.iload_n 3, 1) := dk_29 (dk_at dksJ2_clear_1 4 rfl rfl)
theorem dJ2_clear_28 : decode cJ2_clear 28 = .ok (.iload_n 2, 1) := dk_28 (dk_at dksJ2_clear_1 5 rfl rfl)
theorem dJ2_clear_29 : decode cJ2_clear 29 = .ok (.if_icmp .ge 13, 3) := dk_162 0 13 (dk_at dksJ2_clear_1 6 rfl rfl)
theorem dJ2_clear_32 : decode cJ2_clear 32 = .ok (.aload_n 1, 1) := dk_43 (dk_at dksJ2_clear_1 9 rfl rfl)
theorem dJ2_clear_33 : decode cJ2_clear 33 = .ok (.iload_n 3, 1) := dk_29 (dk_at dksJ2_clear_1 10 rfl rfl)
theorem dJ2_clear_34 : decode cJ2_clear 34 = .ok (.aconst_null, 1) := dk_1 (dk_at dksJ2_clear_1 11 rfl rfl)
theorem dJ2_clear_35 : decode cJ2_clear 35 = .ok (.aastore, 1) := dk_83 (dk_at dksJ2_clear_1 12 rfl rfl)
theorem dJ2_clear_36 : decode cJ2_clear 36 = .ok (.iinc 3 1, 3) := dk_132 3 1 (dk_at dksJ2_clear_1 13 rfl rfl)
theorem dJ2_clear_39 : decode cJ2_clear 39 = .ok (.goto (-12), 3) := dk_167 255 244 (dk_at dksJ2_clear_1 16 rfl rfl)
theorem dJ2_clear_42 : decode cJ2_clear 42 = .ok (.return_, 1) := dk_177 (dk_at dksJ2_clear_1 19 rfl rfl)
abbrev cJ2_addAll : ByteArray := prog_62_method_41_code
def yJ2_addAll : MethodName := ⟨RJ2, "addAll", "(Ljava/util/Collection;)Z"⟩
def dkwJ2_addAll_3 : List UInt8 := [181, 0, 48, 4, 172]
abbrev dktJ2_addAll_3 : List UInt8 := dkwJ2_addAll_3 ++ []
def dkwJ2_addAll_2 : List UInt8 := [21, 5, 29, 96, 182, 0, 69, 58, 4, 44, 3, 25, 4, 21, 5, 29, 184, 0, 112, 42, 21, 5, 29, 96]
abbrev dktJ2_addAll_2 : List UInt8 := dkwJ2_addAll_2 ++ dktJ2_addAll_3
def dkwJ2_addAll_1 : List UInt8 := [3, 172, 29, 42, 180, 0, 9, 89, 58, 4, 190, 42, 180, 0, 48, 89, 54, 5, 100, 164, 0, 13, 42]
abbrev dktJ2_addAll_1 : List UInt8 := dkwJ2_addAll_1 ++ dktJ2_addAll_2
def dkwJ2_addAll_0 : List UInt8 := [43, 185, 0, 42, 1, 0, 77, 42, 89, 180, 0, 63, 4, 96, 181, 0, 63, 44, 190, 62, 29, 154, 0, 5]
abbrev dktJ2_addAll_0 : List UInt8 := dkwJ2_addAll_0 ++ dktJ2_addAll_1
theorem dksJ2_addAll_0 : cJ2_addAll.data.toList.drop 0 = dktJ2_addAll_0 := by decide +kernel
theorem dksJ2_addAll_1 : cJ2_addAll.data.toList.drop 24 = dktJ2_addAll_1 := dk_seg dksJ2_addAll_0 24 rfl rfl
theorem dksJ2_addAll_2 : cJ2_addAll.data.toList.drop 47 = dktJ2_addAll_2 := dk_seg dksJ2_addAll_1 23 rfl rfl
theorem dksJ2_addAll_3 : cJ2_addAll.data.toList.drop 71 = dktJ2_addAll_3 := dk_seg dksJ2_addAll_2 24 rfl rfl
theorem dJ2_addAll_0 : decode cJ2_addAll 0 = .ok (.aload_n 1, 1) := dk_43 (dk_at dksJ2_addAll_0 0 rfl rfl)
theorem dJ2_addAll_1 : decode cJ2_addAll 1 = .ok (.invokeinterface 42 1, 5) := by decide +kernel
theorem dJ2_addAll_6 : decode cJ2_addAll 6 = .ok (.astore_n 2, 1) := dk_77 (dk_at dksJ2_addAll_0 6 rfl rfl)
theorem dJ2_addAll_7 : decode cJ2_addAll 7 = .ok (.aload_n 0, 1) := dk_42 (dk_at dksJ2_addAll_0 7 rfl rfl)
theorem dJ2_addAll_8 : decode cJ2_addAll 8 = .ok (.dup, 1) := dk_89 (dk_at dksJ2_addAll_0 8 rfl rfl)
theorem dJ2_addAll_9 : decode cJ2_addAll 9 = .ok (.getfield 63, 3) := dk_180 0 63 (dk_at dksJ2_addAll_0 9 rfl rfl)
theorem dJ2_addAll_12 : decode cJ2_addAll 12 = .ok (.iconst 1, 1) := dk_4 (dk_at dksJ2_addAll_0 12 rfl rfl)
theorem dJ2_addAll_13 : decode cJ2_addAll 13 = .ok (.iadd, 1) := dk_96 (dk_at dksJ2_addAll_0 13 rfl rfl)
theorem dJ2_addAll_14 : decode cJ2_addAll 14 = .ok (.putfield 63, 3) := dk_181 0 63 (dk_at dksJ2_addAll_0 14 rfl rfl)
theorem dJ2_addAll_17 : decode cJ2_addAll 17 = .ok (.aload_n 2, 1) := dk_44 (dk_at dksJ2_addAll_0 17 rfl rfl)
theorem dJ2_addAll_18 : decode cJ2_addAll 18 = .ok (.arraylength, 1) := dk_190 (dk_at dksJ2_addAll_0 18 rfl rfl)
theorem dJ2_addAll_19 : decode cJ2_addAll 19 = .ok (.istore_n 3, 1) := dk_62 (dk_at dksJ2_addAll_0 19 rfl rfl)
theorem dJ2_addAll_20 : decode cJ2_addAll 20 = .ok (.iload_n 3, 1) := dk_29 (dk_at dksJ2_addAll_0 20 rfl rfl)
theorem dJ2_addAll_21 : decode cJ2_addAll 21 = .ok (.ifCond .ne 5, 3) := dk_154 0 5 (dk_at dksJ2_addAll_0 21 rfl rfl)
theorem dJ2_addAll_24 : decode cJ2_addAll 24 = .ok (.iconst 0, 1) := dk_3 (dk_at dksJ2_addAll_1 0 rfl rfl)
theorem dJ2_addAll_25 : decode cJ2_addAll 25 = .ok (.ireturn, 1) := dk_172 (dk_at dksJ2_addAll_1 1 rfl rfl)
theorem dJ2_addAll_26 : decode cJ2_addAll 26 = .ok (.iload_n 3, 1) := dk_29 (dk_at dksJ2_addAll_1 2 rfl rfl)
theorem dJ2_addAll_27 : decode cJ2_addAll 27 = .ok (.aload_n 0, 1) := dk_42 (dk_at dksJ2_addAll_1 3 rfl rfl)
theorem dJ2_addAll_28 : decode cJ2_addAll 28 = .ok (.getfield 9, 3) := dk_180 0 9 (dk_at dksJ2_addAll_1 4 rfl rfl)
theorem dJ2_addAll_31 : decode cJ2_addAll 31 = .ok (.dup, 1) := dk_89 (dk_at dksJ2_addAll_1 7 rfl rfl)
theorem dJ2_addAll_32 : decode cJ2_addAll 32 = .ok (.astore 4, 2) := dk_58 4 (dk_at dksJ2_addAll_1 8 rfl rfl)
theorem dJ2_addAll_34 : decode cJ2_addAll 34 = .ok (.arraylength, 1) := dk_190 (dk_at dksJ2_addAll_1 10 rfl rfl)
theorem dJ2_addAll_35 : decode cJ2_addAll 35 = .ok (.aload_n 0, 1) := dk_42 (dk_at dksJ2_addAll_1 11 rfl rfl)
theorem dJ2_addAll_36 : decode cJ2_addAll 36 = .ok (.getfield 48, 3) := dk_180 0 48 (dk_at dksJ2_addAll_1 12 rfl rfl)
theorem dJ2_addAll_39 : decode cJ2_addAll 39 = .ok (.dup, 1) := dk_89 (dk_at dksJ2_addAll_1 15 rfl rfl)
theorem dJ2_addAll_40 : decode cJ2_addAll 40 = .ok (.istore 5, 2) := dk_54 5 (dk_at dksJ2_addAll_1 16 rfl rfl)
theorem dJ2_addAll_42 : decode cJ2_addAll 42 = .ok (.isub, 1) := dk_100 (dk_at dksJ2_addAll_1 18 rfl rfl)
theorem dJ2_addAll_43 : decode cJ2_addAll 43 = .ok (.if_icmp .le 13, 3) := dk_164 0 13 (dk_at dksJ2_addAll_1 19 rfl rfl)
theorem dJ2_addAll_46 : decode cJ2_addAll 46 = .ok (.aload_n 0, 1) := dk_42 (dk_at dksJ2_addAll_1 22 rfl rfl)
theorem dJ2_addAll_47 : decode cJ2_addAll 47 = .ok (.iload 5, 2) := dk_21 5 (dk_at dksJ2_addAll_2 0 rfl rfl)
theorem dJ2_addAll_49 : decode cJ2_addAll 49 = .ok (.iload_n 3, 1) := dk_29 (dk_at dksJ2_addAll_2 2 rfl rfl)
theorem dJ2_addAll_50 : decode cJ2_addAll 50 = .ok (.iadd, 1) := dk_96 (dk_at dksJ2_addAll_2 3 rfl rfl)
theorem dJ2_addAll_51 : decode cJ2_addAll 51 = .ok (.invokevirtual 69, 3) := dk_182 0 69 (dk_at dksJ2_addAll_2 4 rfl rfl)
theorem dJ2_addAll_54 : decode cJ2_addAll 54 = .ok (.astore 4, 2) := dk_58 4 (dk_at dksJ2_addAll_2 7 rfl rfl)
theorem dJ2_addAll_56 : decode cJ2_addAll 56 = .ok (.aload_n 2, 1) := dk_44 (dk_at dksJ2_addAll_2 9 rfl rfl)
theorem dJ2_addAll_57 : decode cJ2_addAll 57 = .ok (.iconst 0, 1) := dk_3 (dk_at dksJ2_addAll_2 10 rfl rfl)
theorem dJ2_addAll_58 : decode cJ2_addAll 58 = .ok (.aload 4, 2) := dk_25 4 (dk_at dksJ2_addAll_2 11 rfl rfl)
theorem dJ2_addAll_60 : decode cJ2_addAll 60 = .ok (.iload 5, 2) := dk_21 5 (dk_at dksJ2_addAll_2 13 rfl rfl)
theorem dJ2_addAll_62 : decode cJ2_addAll 62 = .ok (.iload_n 3, 1) := dk_29 (dk_at dksJ2_addAll_2 15 rfl rfl)
theorem dJ2_addAll_63 : decode cJ2_addAll 63 = .ok (.invokestatic 112, 3) := dk_184 0 112 (dk_at dksJ2_addAll_2 16 rfl rfl)
theorem dJ2_addAll_66 : decode cJ2_addAll 66 = .ok (.aload_n 0, 1) := dk_42 (dk_at dksJ2_addAll_2 19 rfl rfl)
theorem dJ2_addAll_67 : decode cJ2_addAll 67 = .ok (.iload 5, 2) := dk_21 5 (dk_at dksJ2_addAll_2 20 rfl rfl)
theorem dJ2_addAll_69 : decode cJ2_addAll 69 = .ok (.iload_n 3, 1) := dk_29 (dk_at dksJ2_addAll_2 22 rfl rfl)
theorem dJ2_addAll_70 : decode cJ2_addAll 70 = .ok (.iadd, 1) := dk_96 (dk_at dksJ2_addAll_2 23 rfl rfl)
theorem dJ2_addAll_71 : decode cJ2_addAll 71 = .ok (.putfield 48, 3) := dk_181 0 48 (dk_at dksJ2_addAll_3 0 rfl rfl)
theorem dJ2_addAll_74 : decode cJ2_addAll 74 = .ok (.iconst 1, 1) := dk_4 (dk_at dksJ2_addAll_3 3 rfl rfl)
theorem dJ2_addAll_75 : decode cJ2_addAll 75 = .ok (.ireturn, 1) := dk_172 (dk_at dksJ2_addAll_3 4 rfl rfl)
abbrev cJ2_toArray : ByteArray := prog_62_method_16_code
def yJ2_toArray : MethodName := ⟨RJ2, "toArray", "()[Ljava/lang/Object;"⟩
def dkwJ2_toArray_0 : List UInt8 := [42, 180, 0, 9, 42, 180, 0, 48, 184, 0, 66, 176]
abbrev dktJ2_toArray_0 : List UInt8 := dkwJ2_toArray_0 ++ []
theorem dksJ2_toArray_0 : cJ2_toArray.data.toList.drop 0 = dktJ2_toArray_0 := by decide +kernel
theorem dJ2_toArray_0 : decode cJ2_toArray 0 = .ok (.aload_n 0, 1) := dk_42 (dk_at dksJ2_toArray_0 0 rfl rfl)
theorem dJ2_toArray_1 : decode cJ2_toArray 1 = .ok (.getfield 9, 3) := dk_180 0 9 (dk_at dksJ2_toArray_0 1 rfl rfl)
theorem dJ2_toArray_4 : decode cJ2_toArray 4 = .ok (.aload_n 0, 1) := dk_42 (dk_at dksJ2_toArray_0 4 rfl rfl)
theorem dJ2_toArray_5 : decode cJ2_toArray 5 = .ok (.getfield 48, 3) := dk_180 0 48 (dk_at dksJ2_toArray_0 5 rfl rfl)
theorem dJ2_toArray_8 : decode cJ2_toArray 8 = .ok (.invokestatic 66, 3) := dk_184 0 66 (dk_at dksJ2_toArray_0 8 rfl rfl)
theorem dJ2_toArray_11 : decode cJ2_toArray 11 = .ok (.areturn, 1) := dk_176 (dk_at dksJ2_toArray_0 11 rfl rfl)
abbrev cJ2_isEmpty : ByteArray := prog_62_method_9_code
def yJ2_isEmpty : MethodName := ⟨RJ2, "isEmpty", "()Z"⟩
def dkwJ2_isEmpty_0 : List UInt8 := [42, 180, 0, 48, 154, 0, 7, 4, 167, 0, 4, 3, 172]
abbrev dktJ2_isEmpty_0 : List UInt8 := dkwJ2_isEmpty_0 ++ []
theorem dksJ2_isEmpty_0 : cJ2_isEmpty.data.toList.drop 0 = dktJ2_isEmpty_0 := by decide +kernel
theorem dJ2_isEmpty_0 : decode cJ2_isEmpty 0 = .ok (.aload_n 0, 1) := dk_42 (dk_at dksJ2_isEmpty_0 0 rfl rfl)
theorem dJ2_isEmpty_1 : decode cJ2_isEmpty 1 = .ok (.getfield 48, 3) := dk_180 0 48 (dk_at dksJ2_isEmpty_0 1 rfl rfl)
theorem dJ2_isEmpty_4 : decode cJ2_isEmpty 4 = .ok (.ifCond .ne 7, 3) := dk_154 0 7 (dk_at dksJ2_isEmpty_0 4 rfl rfl)
theorem dJ2_isEmpty_7 : decode cJ2_isEmpty 7 = .ok (.iconst 1, 1) := dk_4 (dk_at dksJ2_isEmpty_0 7 rfl rfl)
theorem dJ2_isEmpty_8 : decode cJ2_isEmpty 8 = .ok (.goto 4, 3) := dk_167 0 4 (dk_at dksJ2_isEmpty_0 8 rfl rfl)
theorem dJ2_isEmpty_11 : decode cJ2_isEmpty 11 = .ok (.iconst 0, 1) := dk_3 (dk_at dksJ2_isEmpty_0 11 rfl rfl)
theorem dJ2_isEmpty_12 : decode cJ2_isEmpty 12 = .ok (.ireturn, 1) := dk_172 (dk_at dksJ2_isEmpty_0 12 rfl rfl)
theorem q101 : (Jvm.Cond.initialized "java/util/ArrayList") ∈ lw_all := lw_g (lw_at lw_m1 5 rfl) rfl
theorem q178 : (Jvm.Cond.instantiable "java/util/ArrayList" (3 : Nat)) ∈ lw_all := lw_g (lw_at lw_m1 82 rfl) rfl
theorem q180 : (Jvm.Cond.instanceMethod ({ cls := "java/util/ArrayList", name := "<init>", desc := "()V" } : Jvm.MethodName)) ∈ lw_all := lw_g (lw_at lw_m1 84 rfl) rfl
theorem q181 : (Jvm.Cond.code ({ cls := "java/util/ArrayList", name := "<init>", desc := "()V" } : Jvm.MethodName) prog_62_method_2_code (1 : Nat) (Option.none : Option Jvm.ClassFile.FieldType)) ∈ lw_all := lw_g (lw_at lw_m1 85 rfl) rfl
theorem q182 : (Jvm.Cond.methodLink "java/util/ArrayList" (1 : Nat) ({ cls := "java/util/AbstractList", name := "<init>", desc := "()V" } : Jvm.MethodName)) ∈ lw_all := lw_g (lw_at lw_m1 86 rfl) rfl
theorem q189 : (Jvm.Cond.fieldLink "java/util/ArrayList" (39 : Nat) "java/util/ArrayList" "DEFAULTCAPACITY_EMPTY_ELEMENTDATA" "[Ljava/lang/Object;") ∈ lw_all := lw_g (lw_at lw_m1 93 rfl) rfl
theorem q190 : (Jvm.Cond.laysStatic "java/util/ArrayList" "DEFAULTCAPACITY_EMPTY_ELEMENTDATA" "[Ljava/lang/Object;") ∈ lw_tbl := lw_at lw_m1 94 rfl
theorem q191 : (Jvm.Cond.fieldLink "java/util/ArrayList" (9 : Nat) "java/util/ArrayList" "elementData" "[Ljava/lang/Object;") ∈ lw_all := lw_g (lw_at lw_m1 95 rfl) rfl
theorem q194 : (Jvm.Cond.fieldLink "java/util/ArrayList" (48 : Nat) "java/util/ArrayList" "size" "I") ∈ lw_all := lw_g (lw_at lw_m1 98 rfl) rfl
theorem q199 : (Jvm.Cond.sameField "java/util/ArrayList" "java/util/AbstractList" "modCount" "I") ∈ lw_all := lw_g (lw_at lw_m1 103 rfl) rfl
theorem q202 : (Jvm.Cond.fieldLink "java/util/ArrayList" (63 : Nat) "java/util/ArrayList" "modCount" "I") ∈ lw_all := lw_g (lw_at lw_m1 106 rfl) rfl
theorem q203 : (Jvm.Cond.lays "java/util/ArrayList" "java/util/ArrayList" "elementData" "[Ljava/lang/Object;") ∈ lw_all := lw_g (lw_at lw_m1 107 rfl) rfl
theorem q204 : (Jvm.Cond.soleField "java/util/ArrayList" "elementData") ∈ lw_all := lw_g (lw_at lw_m1 108 rfl) rfl
theorem q205 : (Jvm.Cond.lays "java/util/ArrayList" "java/util/ArrayList" "size" "I") ∈ lw_all := lw_g (lw_at lw_m1 109 rfl) rfl
theorem q206 : (Jvm.Cond.soleField "java/util/ArrayList" "size") ∈ lw_all := lw_g (lw_at lw_m1 110 rfl) rfl
theorem q207 : (Jvm.Cond.lays "java/util/ArrayList" "java/util/AbstractList" "modCount" "I") ∈ lw_all := lw_g (lw_at lw_m1 111 rfl) rfl
theorem q209 : (Jvm.Cond.superclass "java/util/ArrayList" "java/util/AbstractList") ∈ lw_all := lw_g (lw_at lw_m1 113 rfl) rfl
theorem q1040 : (Jvm.Cond.instanceMethod ({ cls := "java/util/ArrayList", name := "add", desc := "(Ljava/lang/Object;)Z" } : Jvm.MethodName)) ∈ lw_all := lw_g (lw_at lw_m4 224 rfl) rfl
theorem q1041 : (Jvm.Cond.selects "java/util/ArrayList" ({ cls := "java/util/ArrayList", name := "add", desc := "(Ljava/lang/Object;)Z" } : Jvm.MethodName) ({ cls := "java/util/ArrayList", name := "add", desc := "(Ljava/lang/Object;)Z" } : Jvm.MethodName)) ∈ lw_all := lw_g (lw_at lw_m4 225 rfl) rfl
theorem q1042 : (Jvm.Cond.code ({ cls := "java/util/ArrayList", name := "add", desc := "(Ljava/lang/Object;)Z" } : Jvm.MethodName) prog_62_method_25_code (2 : Nat) (Option.some Jvm.ClassFile.FieldType.boolean)) ∈ lw_all := lw_g (lw_at lw_m4 226 rfl) rfl
theorem q1043 : (Jvm.Cond.methodLink "java/util/ArrayList" (131 : Nat) ({ cls := "java/util/ArrayList", name := "add", desc := "(Ljava/lang/Object;[Ljava/lang/Object;I)V" } : Jvm.MethodName)) ∈ lw_all := lw_g (lw_at lw_m4 227 rfl) rfl
theorem q1044 : (Jvm.Cond.privateMethod ({ cls := "java/util/ArrayList", name := "add", desc := "(Ljava/lang/Object;[Ljava/lang/Object;I)V" } : Jvm.MethodName)) ∈ lw_tbl := lw_at lw_m4 228 rfl
theorem q1045 : (Jvm.Cond.instanceMethod ({ cls := "java/util/ArrayList", name := "add", desc := "(Ljava/lang/Object;[Ljava/lang/Object;I)V" } : Jvm.MethodName)) ∈ lw_all := lw_g (lw_at lw_m4 229 rfl) rfl
theorem q1046 : (Jvm.Cond.code ({ cls := "java/util/ArrayList", name := "add", desc := "(Ljava/lang/Object;[Ljava/lang/Object;I)V" } : Jvm.MethodName) prog_62_method_24_code (4 : Nat) (Option.none : Option Jvm.ClassFile.FieldType)) ∈ lw_all := lw_g (lw_at lw_m4 230 rfl) rfl
theorem q1047 : (Jvm.Cond.methodLink "java/util/ArrayList" (129 : Nat) ({ cls := "java/util/ArrayList", name := "grow", desc := "()[Ljava/lang/Object;" } : Jvm.MethodName)) ∈ lw_all := lw_g (lw_at lw_m4 231 rfl) rfl
theorem q1048 : (Jvm.Cond.privateMethod ({ cls := "java/util/ArrayList", name := "grow", desc := "()[Ljava/lang/Object;" } : Jvm.MethodName)) ∈ lw_tbl := lw_at lw_m4 232 rfl
theorem q1049 : (Jvm.Cond.instanceMethod ({ cls := "java/util/ArrayList", name := "grow", desc := "()[Ljava/lang/Object;" } : Jvm.MethodName)) ∈ lw_all := lw_g (lw_at lw_m4 233 rfl) rfl
theorem q1050 : (Jvm.Cond.code ({ cls := "java/util/ArrayList", name := "grow", desc := "()[Ljava/lang/Object;" } : Jvm.MethodName) prog_62_method_7_code (1 : Nat) (Option.some (Jvm.ClassFile.FieldType.array (Jvm.ClassFile.FieldType.object "java/lang/Object")))) ∈ lw_all := lw_g (lw_at lw_m4 234 rfl) rfl
theorem q1051 : (Jvm.Cond.methodLink "java/util/ArrayList" (69 : Nat) ({ cls := "java/util/ArrayList", name := "grow", desc := "(I)[Ljava/lang/Object;" } : Jvm.MethodName)) ∈ lw_all := lw_g (lw_at lw_m4 235 rfl) rfl
theorem q1052 : (Jvm.Cond.privateMethod ({ cls := "java/util/ArrayList", name := "grow", desc := "(I)[Ljava/lang/Object;" } : Jvm.MethodName)) ∈ lw_tbl := lw_at lw_m4 236 rfl
theorem q1053 : (Jvm.Cond.instanceMethod ({ cls := "java/util/ArrayList", name := "grow", desc := "(I)[Ljava/lang/Object;" } : Jvm.MethodName)) ∈ lw_all := lw_g (lw_at lw_m4 237 rfl) rfl
theorem q1054 : (Jvm.Cond.code ({ cls := "java/util/ArrayList", name := "grow", desc := "(I)[Ljava/lang/Object;" } : Jvm.MethodName) prog_62_method_6_code (4 : Nat) (Option.some (Jvm.ClassFile.FieldType.array (Jvm.ClassFile.FieldType.object "java/lang/Object")))) ∈ lw_all := lw_g (lw_at lw_m4 238 rfl) rfl
theorem q1055 : (Jvm.Cond.methodLink "java/util/ArrayList" (73 : Nat) ({ cls := "jdk/internal/util/ArraysSupport", name := "newLength", desc := "(III)I" } : Jvm.MethodName)) ∈ lw_all := lw_g (lw_at lw_m4 239 rfl) rfl
theorem q1056 : (Jvm.Cond.methodLink "java/util/ArrayList" (66 : Nat) ({ cls := "java/util/Arrays", name := "copyOf", desc := "([Ljava/lang/Object;I)[Ljava/lang/Object;" } : Jvm.MethodName)) ∈ lw_all := lw_g (lw_at lw_m5 0 rfl) rfl
theorem q1093 : (Jvm.Cond.selects "java/util/ArrayList" ({ cls := "java/lang/Object", name := "getClass", desc := "()Ljava/lang/Class;" } : Jvm.MethodName) ({ cls := "java/lang/Object", name := "getClass", desc := "()Ljava/lang/Class;" } : Jvm.MethodName)) ∈ lw_all := lw_g (lw_at lw_m5 37 rfl) rfl
theorem q1111 : (Jvm.Cond.methodLink "java/util/ArrayList" (79 : Nat) ({ cls := "java/lang/Math", name := "max", desc := "(II)I" } : Jvm.MethodName)) ∈ lw_all := lw_g (lw_at lw_m5 55 rfl) rfl
theorem q1112 : (Jvm.Cond.classLink "java/util/ArrayList" (7 : Nat) "java/lang/Object") ∈ lw_all := lw_g (lw_at lw_m5 56 rfl) rfl
theorem q1120 : (Jvm.Cond.instanceMethod ({ cls := "java/util/ArrayList", name := "size", desc := "()I" } : Jvm.MethodName)) ∈ lw_all := lw_g (lw_at lw_m5 64 rfl) rfl
theorem q1121 : (Jvm.Cond.selects "java/util/ArrayList" ({ cls := "java/util/ArrayList", name := "size", desc := "()I" } : Jvm.MethodName) ({ cls := "java/util/ArrayList", name := "size", desc := "()I" } : Jvm.MethodName)) ∈ lw_all := lw_g (lw_at lw_m5 65 rfl) rfl
theorem q1122 : (Jvm.Cond.code ({ cls := "java/util/ArrayList", name := "size", desc := "()I" } : Jvm.MethodName) prog_62_method_8_code (1 : Nat) (Option.some Jvm.ClassFile.FieldType.int)) ∈ lw_all := lw_g (lw_at lw_m5 66 rfl) rfl
theorem q1223 : (Jvm.Cond.instanceMethod ({ cls := "java/util/ArrayList", name := "get", desc := "(I)Ljava/lang/Object;" } : Jvm.MethodName)) ∈ lw_all := lw_g (lw_at lw_m5 167 rfl) rfl
theorem q1224 : (Jvm.Cond.selects "java/util/ArrayList" ({ cls := "java/util/ArrayList", name := "get", desc := "(I)Ljava/lang/Object;" } : Jvm.MethodName) ({ cls := "java/util/ArrayList", name := "get", desc := "(I)Ljava/lang/Object;" } : Jvm.MethodName)) ∈ lw_all := lw_g (lw_at lw_m5 168 rfl) rfl
theorem q1225 : (Jvm.Cond.code ({ cls := "java/util/ArrayList", name := "get", desc := "(I)Ljava/lang/Object;" } : Jvm.MethodName) prog_62_method_20_code (2 : Nat) (Option.some (Jvm.ClassFile.FieldType.object "java/lang/Object"))) ∈ lw_all := lw_g (lw_at lw_m5 169 rfl) rfl
theorem q1226 : (Jvm.Cond.methodLink "java/util/ArrayList" (118 : Nat) ({ cls := "java/util/Objects", name := "checkIndex", desc := "(II)I" } : Jvm.MethodName)) ∈ lw_all := lw_g (lw_at lw_m5 170 rfl) rfl
theorem q1230 : (Jvm.Cond.methodLink "java/util/ArrayList" (123 : Nat) ({ cls := "java/util/ArrayList", name := "elementData", desc := "(I)Ljava/lang/Object;" } : Jvm.MethodName)) ∈ lw_all := lw_g (lw_at lw_m5 174 rfl) rfl
theorem q1231 : (Jvm.Cond.instanceMethod ({ cls := "java/util/ArrayList", name := "elementData", desc := "(I)Ljava/lang/Object;" } : Jvm.MethodName)) ∈ lw_all := lw_g (lw_at lw_m5 175 rfl) rfl
theorem q1232 : (Jvm.Cond.selects "java/util/ArrayList" ({ cls := "java/util/ArrayList", name := "elementData", desc := "(I)Ljava/lang/Object;" } : Jvm.MethodName) ({ cls := "java/util/ArrayList", name := "elementData", desc := "(I)Ljava/lang/Object;" } : Jvm.MethodName)) ∈ lw_all := lw_g (lw_at lw_m5 176 rfl) rfl
theorem q1233 : (Jvm.Cond.code ({ cls := "java/util/ArrayList", name := "elementData", desc := "(I)Ljava/lang/Object;" } : Jvm.MethodName) prog_62_method_18_code (2 : Nat) (Option.some (Jvm.ClassFile.FieldType.object "java/lang/Object"))) ∈ lw_all := lw_g (lw_at lw_m5 177 rfl) rfl
theorem q1293 : (Jvm.Cond.instanceMethod ({ cls := "java/util/ArrayList", name := "iterator", desc := "()Ljava/util/Iterator;" } : Jvm.MethodName)) ∈ lw_all := lw_g (lw_at lw_m5 237 rfl) rfl
theorem q1294 : (Jvm.Cond.selects "java/util/ArrayList" ({ cls := "java/util/ArrayList", name := "iterator", desc := "()Ljava/util/Iterator;" } : Jvm.MethodName) ({ cls := "java/util/ArrayList", name := "iterator", desc := "()Ljava/util/Iterator;" } : Jvm.MethodName)) ∈ lw_all := lw_g (lw_at lw_m5 238 rfl) rfl
theorem q1295 : (Jvm.Cond.code ({ cls := "java/util/ArrayList", name := "iterator", desc := "()Ljava/util/Iterator;" } : Jvm.MethodName) prog_62_method_55_code (1 : Nat) (Option.some (Jvm.ClassFile.FieldType.object "java/util/Iterator"))) ∈ lw_all := lw_g (lw_at lw_m5 239 rfl) rfl
theorem q1296 : (Jvm.Cond.classLink "java/util/ArrayList" (267 : Nat) "java/util/ArrayList$Itr") ∈ lw_all := lw_g (lw_at lw_m6 0 rfl) rfl
theorem q1298 : (Jvm.Cond.methodLink "java/util/ArrayList" (269 : Nat) ({ cls := "java/util/ArrayList$Itr", name := "<init>", desc := "(Ljava/util/ArrayList;)V" } : Jvm.MethodName)) ∈ lw_all := lw_g (lw_at lw_m6 2 rfl) rfl
theorem q1330 : (Jvm.Cond.selects "java/util/ArrayList" ({ cls := "java/util/AbstractList", name := "size", desc := "()I" } : Jvm.MethodName) ({ cls := "java/util/ArrayList", name := "size", desc := "()I" } : Jvm.MethodName)) ∈ lw_all := lw_g (lw_at lw_m6 34 rfl) rfl
theorem q1380 : (Jvm.Cond.selects "java/util/ArrayList" ({ cls := "java/util/AbstractList", name := "get", desc := "(I)Ljava/lang/Object;" } : Jvm.MethodName) ({ cls := "java/util/ArrayList", name := "get", desc := "(I)Ljava/lang/Object;" } : Jvm.MethodName)) ∈ lw_all := lw_g (lw_at lw_m6 84 rfl) rfl
theorem q1799 : (Jvm.Cond.instanceMethod ({ cls := "java/util/ArrayList", name := "remove", desc := "(Ljava/lang/Object;)Z" } : Jvm.MethodName)) ∈ lw_all := lw_g (lw_at lw_m8 23 rfl) rfl
theorem q1800 : (Jvm.Cond.selects "java/util/ArrayList" ({ cls := "java/util/ArrayList", name := "remove", desc := "(Ljava/lang/Object;)Z" } : Jvm.MethodName) ({ cls := "java/util/ArrayList", name := "remove", desc := "(Ljava/lang/Object;)Z" } : Jvm.MethodName)) ∈ lw_all := lw_g (lw_at lw_m8 24 rfl) rfl
theorem q1801 : (Jvm.Cond.code ({ cls := "java/util/ArrayList", name := "remove", desc := "(Ljava/lang/Object;)Z" } : Jvm.MethodName) prog_62_method_38_code (5 : Nat) (Option.some Jvm.ClassFile.FieldType.boolean)) ∈ lw_all := lw_g (lw_at lw_m8 25 rfl) rfl
theorem q1803 : (Jvm.Cond.methodLink "java/util/ArrayList" (93 : Nat) ({ cls := "java/lang/Object", name := "equals", desc := "(Ljava/lang/Object;)Z" } : Jvm.MethodName)) ∈ lw_all := lw_g (lw_at lw_m8 27 rfl) rfl
theorem q1843 : (Jvm.Cond.methodLink "java/util/ArrayList" (144 : Nat) ({ cls := "java/util/ArrayList", name := "fastRemove", desc := "([Ljava/lang/Object;I)V" } : Jvm.MethodName)) ∈ lw_all := lw_g (lw_at lw_m8 67 rfl) rfl
theorem q1844 : (Jvm.Cond.privateMethod ({ cls := "java/util/ArrayList", name := "fastRemove", desc := "([Ljava/lang/Object;I)V" } : Jvm.MethodName)) ∈ lw_tbl := lw_at lw_m8 68 rfl
theorem q1845 : (Jvm.Cond.instanceMethod ({ cls := "java/util/ArrayList", name := "fastRemove", desc := "([Ljava/lang/Object;I)V" } : Jvm.MethodName)) ∈ lw_all := lw_g (lw_at lw_m8 69 rfl) rfl
theorem q1846 : (Jvm.Cond.code ({ cls := "java/util/ArrayList", name := "fastRemove", desc := "([Ljava/lang/Object;I)V" } : Jvm.MethodName) prog_62_method_39_code (4 : Nat) (Option.none : Option Jvm.ClassFile.FieldType)) ∈ lw_all := lw_g (lw_at lw_m8 70 rfl) rfl
theorem q1847 : (Jvm.Cond.methodLink "java/util/ArrayList" (112 : Nat) ({ cls := "java/lang/System", name := "arraycopy", desc := "(Ljava/lang/Object;ILjava/lang/Object;II)V" } : Jvm.MethodName)) ∈ lw_all := lw_g (lw_at lw_m8 71 rfl) rfl
theorem q1940 : (Jvm.Cond.instanceMethod ({ cls := "java/util/ArrayList", name := "remove", desc := "(I)Ljava/lang/Object;" } : Jvm.MethodName)) ∈ lw_all := lw_g (lw_at lw_m8 164 rfl) rfl
theorem q1941 : (Jvm.Cond.selects "java/util/ArrayList" ({ cls := "java/util/ArrayList", name := "remove", desc := "(I)Ljava/lang/Object;" } : Jvm.MethodName) ({ cls := "java/util/ArrayList", name := "remove", desc := "(I)Ljava/lang/Object;" } : Jvm.MethodName)) ∈ lw_all := lw_g (lw_at lw_m8 165 rfl) rfl
theorem q1942 : (Jvm.Cond.code ({ cls := "java/util/ArrayList", name := "remove", desc := "(I)Ljava/lang/Object;" } : Jvm.MethodName) prog_62_method_29_code (4 : Nat) (Option.some (Jvm.ClassFile.FieldType.object "java/lang/Object"))) ∈ lw_all := lw_g (lw_at lw_m8 166 rfl) rfl
theorem q1968 : (Jvm.Cond.instanceMethod ({ cls := "java/util/ArrayList", name := "add", desc := "(ILjava/lang/Object;)V" } : Jvm.MethodName)) ∈ lw_all := lw_g (lw_at lw_m8 192 rfl) rfl
theorem q1969 : (Jvm.Cond.selects "java/util/ArrayList" ({ cls := "java/util/ArrayList", name := "add", desc := "(ILjava/lang/Object;)V" } : Jvm.MethodName) ({ cls := "java/util/ArrayList", name := "add", desc := "(ILjava/lang/Object;)V" } : Jvm.MethodName)) ∈ lw_all := lw_g (lw_at lw_m8 193 rfl) rfl
theorem q1970 : (Jvm.Cond.code ({ cls := "java/util/ArrayList", name := "add", desc := "(ILjava/lang/Object;)V" } : Jvm.MethodName) prog_62_method_26_code (5 : Nat) (Option.none : Option Jvm.ClassFile.FieldType)) ∈ lw_all := lw_g (lw_at lw_m8 194 rfl) rfl
theorem q1971 : (Jvm.Cond.methodLink "java/util/ArrayList" (135 : Nat) ({ cls := "java/util/ArrayList", name := "rangeCheckForAdd", desc := "(I)V" } : Jvm.MethodName)) ∈ lw_all := lw_g (lw_at lw_m8 195 rfl) rfl
theorem q1972 : (Jvm.Cond.privateMethod ({ cls := "java/util/ArrayList", name := "rangeCheckForAdd", desc := "(I)V" } : Jvm.MethodName)) ∈ lw_tbl := lw_at lw_m8 196 rfl
theorem q1973 : (Jvm.Cond.instanceMethod ({ cls := "java/util/ArrayList", name := "rangeCheckForAdd", desc := "(I)V" } : Jvm.MethodName)) ∈ lw_all := lw_g (lw_at lw_m8 197 rfl) rfl
theorem q1974 : (Jvm.Cond.code ({ cls := "java/util/ArrayList", name := "rangeCheckForAdd", desc := "(I)V" } : Jvm.MethodName) prog_62_method_45_code (2 : Nat) (Option.none : Option Jvm.ClassFile.FieldType)) ∈ lw_all := lw_g (lw_at lw_m8 198 rfl) rfl
theorem q1975 : (Jvm.Cond.classLink "java/util/ArrayList" (187 : Nat) "java/lang/IndexOutOfBoundsException") ∈ lw_all := lw_g (lw_at lw_m8 199 rfl) rfl
theorem q1976 : (Jvm.Cond.methodLink "java/util/ArrayList" (198 : Nat) ({ cls := "java/util/ArrayList", name := "outOfBoundsMsg", desc := "(I)Ljava/lang/String;" } : Jvm.MethodName)) ∈ lw_all := lw_g (lw_at lw_m8 200 rfl) rfl
theorem q1977 : (Jvm.Cond.privateMethod ({ cls := "java/util/ArrayList", name := "outOfBoundsMsg", desc := "(I)Ljava/lang/String;" } : Jvm.MethodName)) ∈ lw_tbl := lw_at lw_m8 201 rfl
theorem q1978 : (Jvm.Cond.instanceMethod ({ cls := "java/util/ArrayList", name := "outOfBoundsMsg", desc := "(I)Ljava/lang/String;" } : Jvm.MethodName)) ∈ lw_all := lw_g (lw_at lw_m8 202 rfl) rfl
theorem q1979 : (Jvm.Cond.code ({ cls := "java/util/ArrayList", name := "outOfBoundsMsg", desc := "(I)Ljava/lang/String;" } : Jvm.MethodName) prog_62_method_46_code (2 : Nat) (Option.some (Jvm.ClassFile.FieldType.object "java/lang/String"))) ∈ lw_all := lw_g (lw_at lw_m8 203 rfl) rfl
theorem q1980 : (Jvm.Cond.classLink "java/util/ArrayList" (20 : Nat) "java/lang/StringBuilder") ∈ lw_all := lw_g (lw_at lw_m8 204 rfl) rfl
theorem q1981 : (Jvm.Cond.methodLink "java/util/ArrayList" (22 : Nat) ({ cls := "java/lang/StringBuilder", name := "<init>", desc := "()V" } : Jvm.MethodName)) ∈ lw_all := lw_g (lw_at lw_m8 205 rfl) rfl
theorem q1982 : (Jvm.Cond.stringRef "java/util/ArrayList" (201 : Nat) "Index: ") ∈ lw_tbl := lw_at lw_m8 206 rfl
theorem q1983 : (Jvm.Cond.methodLink "java/util/ArrayList" (25 : Nat) ({ cls := "java/lang/StringBuilder", name := "append", desc := "(Ljava/lang/String;)Ljava/lang/StringBuilder;" } : Jvm.MethodName)) ∈ lw_all := lw_g (lw_at lw_m8 207 rfl) rfl
theorem q1984 : (Jvm.Cond.methodLink "java/util/ArrayList" (29 : Nat) ({ cls := "java/lang/StringBuilder", name := "append", desc := "(I)Ljava/lang/StringBuilder;" } : Jvm.MethodName)) ∈ lw_all := lw_g (lw_at lw_m8 208 rfl) rfl
theorem q1985 : (Jvm.Cond.stringRef "java/util/ArrayList" (203 : Nat) ", Size: ") ∈ lw_tbl := lw_at lw_m8 209 rfl
theorem q1986 : (Jvm.Cond.methodLink "java/util/ArrayList" (32 : Nat) ({ cls := "java/lang/StringBuilder", name := "toString", desc := "()Ljava/lang/String;" } : Jvm.MethodName)) ∈ lw_all := lw_g (lw_at lw_m8 210 rfl) rfl
theorem q1987 : (Jvm.Cond.methodLink "java/util/ArrayList" (193 : Nat) ({ cls := "java/lang/IndexOutOfBoundsException", name := "<init>", desc := "(Ljava/lang/String;)V" } : Jvm.MethodName)) ∈ lw_all := lw_g (lw_at lw_m8 211 rfl) rfl
theorem q2007 : (Jvm.Cond.selects "java/util/ArrayList" ({ cls := "java/util/AbstractList", name := "listIterator", desc := "(I)Ljava/util/ListIterator;" } : Jvm.MethodName) ({ cls := "java/util/ArrayList", name := "listIterator", desc := "(I)Ljava/util/ListIterator;" } : Jvm.MethodName)) ∈ lw_all := lw_g (lw_at lw_m8 231 rfl) rfl
theorem q2008 : (Jvm.Cond.instanceMethod ({ cls := "java/util/ArrayList", name := "listIterator", desc := "(I)Ljava/util/ListIterator;" } : Jvm.MethodName)) ∈ lw_all := lw_g (lw_at lw_m8 232 rfl) rfl
theorem q2009 : (Jvm.Cond.code ({ cls := "java/util/ArrayList", name := "listIterator", desc := "(I)Ljava/util/ListIterator;" } : Jvm.MethodName) prog_62_method_53_code (2 : Nat) (Option.some (Jvm.ClassFile.FieldType.object "java/util/ListIterator"))) ∈ lw_all := lw_g (lw_at lw_m8 233 rfl) rfl
theorem q2010 : (Jvm.Cond.classLink "java/util/ArrayList" (262 : Nat) "java/util/ArrayList$ListItr") ∈ lw_all := lw_g (lw_at lw_m8 234 rfl) rfl
theorem q2012 : (Jvm.Cond.methodLink "java/util/ArrayList" (264 : Nat) ({ cls := "java/util/ArrayList$ListItr", name := "<init>", desc := "(Ljava/util/ArrayList;I)V" } : Jvm.MethodName)) ∈ lw_all := lw_g (lw_at lw_m8 236 rfl) rfl
theorem q2090 : (Jvm.Cond.selects "java/util/ArrayList" ({ cls := "java/util/AbstractList", name := "remove", desc := "(I)Ljava/lang/Object;" } : Jvm.MethodName) ({ cls := "java/util/ArrayList", name := "remove", desc := "(I)Ljava/lang/Object;" } : Jvm.MethodName)) ∈ lw_all := lw_g (lw_at lw_m9 74 rfl) rfl
theorem q2687 : (Jvm.Cond.instanceMethod ({ cls := "java/util/ArrayList", name := "clear", desc := "()V" } : Jvm.MethodName)) ∈ lw_all := lw_g (lw_at lw_m11 191 rfl) rfl
theorem q2688 : (Jvm.Cond.selects "java/util/ArrayList" ({ cls := "java/util/ArrayList", name := "clear", desc := "()V" } : Jvm.MethodName) ({ cls := "java/util/ArrayList", name := "clear", desc := "()V" } : Jvm.MethodName)) ∈ lw_all := lw_g (lw_at lw_m11 192 rfl) rfl
theorem q2689 : (Jvm.Cond.code ({ cls := "java/util/ArrayList", name := "clear", desc := "()V" } : Jvm.MethodName) prog_62_method_40_code (4 : Nat) (Option.none : Option Jvm.ClassFile.FieldType)) ∈ lw_all := lw_g (lw_at lw_m11 193 rfl) rfl
theorem q2700 : (Jvm.Cond.instanceMethod ({ cls := "java/util/ArrayList", name := "addAll", desc := "(Ljava/util/Collection;)Z" } : Jvm.MethodName)) ∈ lw_all := lw_g (lw_at lw_m11 204 rfl) rfl
theorem q2701 : (Jvm.Cond.selects "java/util/ArrayList" ({ cls := "java/util/ArrayList", name := "addAll", desc := "(Ljava/util/Collection;)Z" } : Jvm.MethodName) ({ cls := "java/util/ArrayList", name := "addAll", desc := "(Ljava/util/Collection;)Z" } : Jvm.MethodName)) ∈ lw_all := lw_g (lw_at lw_m11 205 rfl) rfl
theorem q2702 : (Jvm.Cond.code ({ cls := "java/util/ArrayList", name := "addAll", desc := "(Ljava/util/Collection;)Z" } : Jvm.MethodName) prog_62_method_41_code (6 : Nat) (Option.some Jvm.ClassFile.FieldType.boolean)) ∈ lw_all := lw_g (lw_at lw_m11 206 rfl) rfl
theorem q2703 : (Jvm.Cond.interfaceEntry "java/util/ArrayList" (42 : Nat)) ∈ lw_tbl := lw_at lw_m11 207 rfl
theorem q2704 : (Jvm.Cond.methodLink "java/util/ArrayList" (42 : Nat) ({ cls := "java/util/Collection", name := "toArray", desc := "()[Ljava/lang/Object;" } : Jvm.MethodName)) ∈ lw_all := lw_g (lw_at lw_m11 208 rfl) rfl
theorem q2721 : (Jvm.Cond.castable "java/util/ArrayList" "java/util/Collection") ∈ lw_tbl := lw_at lw_m11 225 rfl
theorem q2722 : (Jvm.Cond.selects "java/util/ArrayList" ({ cls := "java/util/Collection", name := "toArray", desc := "()[Ljava/lang/Object;" } : Jvm.MethodName) ({ cls := "java/util/ArrayList", name := "toArray", desc := "()[Ljava/lang/Object;" } : Jvm.MethodName)) ∈ lw_all := lw_g (lw_at lw_m11 226 rfl) rfl
theorem q2723 : (Jvm.Cond.unhidden "java/util/ArrayList" "toArray" "()[Ljava/lang/Object;") ∈ lw_tbl := lw_at lw_m11 227 rfl
theorem q2724 : (Jvm.Cond.instanceMethod ({ cls := "java/util/ArrayList", name := "toArray", desc := "()[Ljava/lang/Object;" } : Jvm.MethodName)) ∈ lw_all := lw_g (lw_at lw_m11 228 rfl) rfl
theorem q2725 : (Jvm.Cond.publicMethod ({ cls := "java/util/ArrayList", name := "toArray", desc := "()[Ljava/lang/Object;" } : Jvm.MethodName)) ∈ lw_tbl := lw_at lw_m11 229 rfl
theorem q2726 : (Jvm.Cond.code ({ cls := "java/util/ArrayList", name := "toArray", desc := "()[Ljava/lang/Object;" } : Jvm.MethodName) prog_62_method_16_code (1 : Nat) (Option.some (Jvm.ClassFile.FieldType.array (Jvm.ClassFile.FieldType.object "java/lang/Object")))) ∈ lw_all := lw_g (lw_at lw_m11 230 rfl) rfl
theorem q2786 : (Jvm.Cond.instanceMethod ({ cls := "java/util/ArrayList", name := "isEmpty", desc := "()Z" } : Jvm.MethodName)) ∈ lw_all := lw_g (lw_at lw_m12 50 rfl) rfl
theorem q2787 : (Jvm.Cond.selects "java/util/ArrayList" ({ cls := "java/util/ArrayList", name := "isEmpty", desc := "()Z" } : Jvm.MethodName) ({ cls := "java/util/ArrayList", name := "isEmpty", desc := "()Z" } : Jvm.MethodName)) ∈ lw_all := lw_g (lw_at lw_m12 51 rfl) rfl
theorem q2788 : (Jvm.Cond.code ({ cls := "java/util/ArrayList", name := "isEmpty", desc := "()Z" } : Jvm.MethodName) prog_62_method_9_code (1 : Nat) (Option.some Jvm.ClassFile.FieldType.boolean)) ∈ lw_all := lw_g (lw_at lw_m12 52 rfl) rfl
theorem q3314 : (Jvm.Cond.castable "java/util/ArrayList" "java/lang/Object") ∈ lw_tbl := lw_at lw_m14 98 rfl
theorem in_J2 : ∀ w ∈ wsJ20, w ∈ lw_all := lw_in wsJ20 [207, 203, 205] (by decide +kernel) (by decide +kernel)
/-! java/util/AbstractSequentialList -/
def RJ3 : String := "java/util/AbstractSequentialList"
abbrev cJ3_init : ByteArray := prog_59_method_1_code
def yJ3_init : MethodName := ⟨RJ3, "<init>", "()V"⟩
theorem dJ3_init_0 : decode cJ3_init 0 = .ok (.aload_n 0, 1) := by decide +kernel
theorem dJ3_init_1 : decode cJ3_init 1 = .ok (.invokespecial 1, 3) := by decide +kernel
theorem dJ3_init_4 : decode cJ3_init 4 = .ok (.return_, 1) := by decide +kernel
abbrev cJ3_iterator : ByteArray := prog_59_method_7_code
def yJ3_iterator : MethodName := ⟨RJ3, "iterator", "()Ljava/util/Iterator;"⟩
theorem dJ3_iterator_0 : decode cJ3_iterator 0 = .ok (.aload_n 0, 1) := by decide +kernel
theorem dJ3_iterator_1 : decode cJ3_iterator 1 = .ok (.invokevirtual 65, 3) := by decide +kernel
theorem dJ3_iterator_4 : decode cJ3_iterator 4 = .ok (.areturn, 1) := by decide +kernel
theorem q102 : (Jvm.Cond.initialized "java/util/AbstractSequentialList") ∈ lw_all := lw_g (lw_at lw_m1 6 rfl) rfl
theorem q216 : (Jvm.Cond.instanceMethod ({ cls := "java/util/AbstractSequentialList", name := "<init>", desc := "()V" } : Jvm.MethodName)) ∈ lw_all := lw_g (lw_at lw_m1 120 rfl) rfl
theorem q217 : (Jvm.Cond.code ({ cls := "java/util/AbstractSequentialList", name := "<init>", desc := "()V" } : Jvm.MethodName) prog_59_method_1_code (1 : Nat) (Option.none : Option Jvm.ClassFile.FieldType)) ∈ lw_all := lw_g (lw_at lw_m1 121 rfl) rfl
theorem q218 : (Jvm.Cond.methodLink "java/util/AbstractSequentialList" (1 : Nat) ({ cls := "java/util/AbstractList", name := "<init>", desc := "()V" } : Jvm.MethodName)) ∈ lw_all := lw_g (lw_at lw_m1 122 rfl) rfl
theorem q1994 : (Jvm.Cond.declares ({ cls := "java/util/AbstractSequentialList", name := "iterator", desc := "()Ljava/util/Iterator;" } : Jvm.MethodName)) ∈ lw_tbl := lw_at lw_m8 218 rfl
theorem q1996 : (Jvm.Cond.instanceMethod ({ cls := "java/util/AbstractSequentialList", name := "iterator", desc := "()Ljava/util/Iterator;" } : Jvm.MethodName)) ∈ lw_all := lw_g (lw_at lw_m8 220 rfl) rfl
theorem q1997 : (Jvm.Cond.code ({ cls := "java/util/AbstractSequentialList", name := "iterator", desc := "()Ljava/util/Iterator;" } : Jvm.MethodName) prog_59_method_7_code (1 : Nat) (Option.some (Jvm.ClassFile.FieldType.object "java/util/Iterator"))) ∈ lw_all := lw_g (lw_at lw_m8 221 rfl) rfl
theorem q1998 : (Jvm.Cond.methodLink "java/util/AbstractSequentialList" (65 : Nat) ({ cls := "java/util/AbstractSequentialList", name := "listIterator", desc := "()Ljava/util/ListIterator;" } : Jvm.MethodName)) ∈ lw_all := lw_g (lw_at lw_m8 222 rfl) rfl
theorem q1999 : (Jvm.Cond.sameMethod "java/util/AbstractSequentialList" "java/util/AbstractList" "listIterator" "()Ljava/util/ListIterator;") ∈ lw_all := lw_g (lw_at lw_m8 223 rfl) rfl
/-! java/util/LinkedList -/
def RJ4 : String := "java/util/LinkedList"
def TJ4 : u_T := fun k => match k with
  | 0 => ("java/util/AbstractList", "modCount", "I", false)
  | 1 => ("java/util/LinkedList", "size", "I", false)
  | 2 => ("java/util/LinkedList", "first", "Ljava/util/LinkedList$Node;", false)
  | _ => ("java/util/LinkedList", "last", "Ljava/util/LinkedList$Node;", false)
def tyJ4 : Nat → FieldType := fun k => match k with
  | 0 => .int
  | 1 => .int
  | 2 => .object "java/util/LinkedList$Node"
  | _ => .object "java/util/LinkedList$Node"
abbrev wsJ40 : List Cond := u_ws RJ4 TJ4 4
theorem nmJ4 : ∀ a, a < 4 → ∀ b, b < 4 → a ≠ b → (TJ4 a).2.1 ≠ (TJ4 b).2.1 := by decide +kernel
theorem tyJ4_ok : ∀ k, k < 4 → parseFieldDescriptor (TJ4 k).2.2.1 = some (tyJ4 k) := by decide +kernel
abbrev cJ4_init : ByteArray := prog_71_method_1_code
def yJ4_init : MethodName := ⟨RJ4, "<init>", "()V"⟩
def dkwJ4_init_0 : List UInt8 := [42, 183, 0, 1, 42, 3, 181, 0, 7, 177]
abbrev dktJ4_init_0 : List UInt8 := dkwJ4_init_0 ++ []
theorem dksJ4_init_0 : cJ4_init.data.toList.drop 0 = dktJ4_init_0 := by decide +kernel
theorem dJ4_init_0 : decode cJ4_init 0 = .ok (.aload_n 0, 1) := dk_42 (dk_at dksJ4_init_0 0 rfl rfl)
theorem dJ4_init_1 : decode cJ4_init 1 = .ok (.invokespecial 1, 3) := dk_183 0 1 (dk_at dksJ4_init_0 1 rfl rfl)
theorem dJ4_init_4 : decode cJ4_init 4 = .ok (.aload_n 0, 1) := dk_42 (dk_at dksJ4_init_0 4 rfl rfl)
theorem dJ4_init_5 : decode cJ4_init 5 = .ok (.iconst 0, 1) := dk_3 (dk_at dksJ4_init_0 5 rfl rfl)
theorem dJ4_init_6 : decode cJ4_init 6 = .ok (.putfield 7, 3) := dk_181 0 7 (dk_at dksJ4_init_0 6 rfl rfl)
theorem dJ4_init_9 : decode cJ4_init 9 = .ok (.return_, 1) := dk_177 (dk_at dksJ4_init_0 9 rfl rfl)
abbrev cJ4_size : ByteArray := prog_71_method_16_code
def yJ4_size : MethodName := ⟨RJ4, "size", "()I"⟩
theorem dJ4_size_0 : decode cJ4_size 0 = .ok (.aload_n 0, 1) := by decide +kernel
theorem dJ4_size_1 : decode cJ4_size 1 = .ok (.getfield 7, 3) := by decide +kernel
theorem dJ4_size_4 : decode cJ4_size 4 = .ok (.ireturn, 1) := by decide +kernel
abbrev cJ4_get : ByteArray := prog_71_method_22_code
def yJ4_get : MethodName := ⟨RJ4, "get", "(I)Ljava/lang/Object;"⟩
def dkwJ4_get_0 : List UInt8 := [42, 27, 182, 0, 90, 42, 27, 182, 0, 86, 180, 0, 39, 176]
abbrev dktJ4_get_0 : List UInt8 := dkwJ4_get_0 ++ []
theorem dksJ4_get_0 : cJ4_get.data.toList.drop 0 = dktJ4_get_0 := by decide +kernel
theorem dJ4_get_0 : decode cJ4_get 0 = .ok (.aload_n 0, 1) := dk_42 (dk_at dksJ4_get_0 0 rfl rfl)
theorem dJ4_get_1 : decode cJ4_get 1 = .ok (.iload_n 1, 1) := dk_27 (dk_at dksJ4_get_0 1 rfl rfl)
theorem dJ4_get_2 : decode cJ4_get 2 = .ok (.invokevirtual 90, 3) := dk_182 0 90 (dk_at dksJ4_get_0 2 rfl rfl)
theorem dJ4_get_5 : decode cJ4_get 5 = .ok (.aload_n 0, 1) := dk_42 (dk_at dksJ4_get_0 5 rfl rfl)
theorem dJ4_get_6 : decode cJ4_get 6 = .ok (.iload_n 1, 1) := dk_27 (dk_at dksJ4_get_0 6 rfl rfl)
theorem dJ4_get_7 : decode cJ4_get 7 = .ok (.invokevirtual 86, 3) := dk_182 0 86 (dk_at dksJ4_get_0 7 rfl rfl)
theorem dJ4_get_10 : decode cJ4_get 10 = .ok (.getfield 39, 3) := dk_180 0 39 (dk_at dksJ4_get_0 10 rfl rfl)
theorem dJ4_get_13 : decode cJ4_get 13 = .ok (.areturn, 1) := dk_176 (dk_at dksJ4_get_0 13 rfl rfl)
abbrev cJ4_checkElementIndex : ByteArray := prog_71_method_29_code
def yJ4_checkElementIndex : MethodName := ⟨RJ4, "checkElementIndex", "(I)V"⟩
def dkwJ4_checkElementIndex_0 : List UInt8 := [42, 27, 182, 0, 115, 154, 0, 16, 187, 0, 119, 89, 42, 27, 182, 0, 121, 183, 0, 125, 191, 177]
abbrev dktJ4_checkElementIndex_0 : List UInt8 := dkwJ4_checkElementIndex_0 ++ []
theorem dksJ4_checkElementIndex_0 : cJ4_checkElementIndex.data.toList.drop 0 = dktJ4_checkElementIndex_0 := by decide +kernel
theorem dJ4_checkElementIndex_0 : decode cJ4_checkElementIndex 0 = .ok (.aload_n 0, 1) := dk_42 (dk_at dksJ4_checkElementIndex_0 0 rfl rfl)
theorem dJ4_checkElementIndex_1 : decode cJ4_checkElementIndex 1 = .ok (.iload_n 1, 1) := dk_27 (dk_at dksJ4_checkElementIndex_0 1 rfl rfl)
theorem dJ4_checkElementIndex_2 : decode cJ4_checkElementIndex 2 = .ok (.invokevirtual 115, 3) := dk_182 0 115 (dk_at dksJ4_checkElementIndex_0 2 rfl rfl)
theorem dJ4_checkElementIndex_5 : decode cJ4_checkElementIndex 5 = .ok (.ifCond .ne 16, 3) := dk_154 0 16 (dk_at dksJ4_checkElementIndex_0 5 rfl rfl)
theorem dJ4_checkElementIndex_8 : decode cJ4_checkElementIndex 8 = .ok (.new 119, 3) := dk_187 0 119 (dk_at dksJ4_checkElementIndex_0 8 rfl rfl)
theorem dJ4_checkElementIndex_11 : decode cJ4_checkElementIndex 11 = .ok (.dup, 1) := dk_89 (dk_at dksJ4_checkElementIndex_0 11 rfl rfl)
theorem dJ4_checkElementIndex_12 : decode cJ4_checkElementIndex 12 = .ok (.aload_n 0, 1) := dk_42 (dk_at dksJ4_checkElementIndex_0 12 rfl rfl)
theorem dJ4_checkElementIndex_13 : decode cJ4_checkElementIndex 13 = .ok (.iload_n 1, 1) := dk_27 (dk_at dksJ4_checkElementIndex_0 13 rfl rfl)
theorem dJ4_checkElementIndex_14 : decode cJ4_checkElementIndex 14 = .ok (.invokevirtual 121, 3) := dk_182 0 121 (dk_at dksJ4_checkElementIndex_0 14 rfl rfl)
theorem dJ4_checkElementIndex_17 : decode cJ4_checkElementIndex 17 = .ok (.invokespecial 125, 3) := dk_183 0 125 (dk_at dksJ4_checkElementIndex_0 17 rfl rfl)
theorem dJ4_checkElementIndex_20 : decode cJ4_checkElementIndex 20 = .ok (.athrow, 1) := dk_191 (dk_at dksJ4_checkElementIndex_0 20 rfl rfl)
theorem dJ4_checkElementIndex_21 : decode cJ4_checkElementIndex 21 = .ok (.return_, 1) := dk_177 (dk_at dksJ4_checkElementIndex_0 21 rfl rfl)
abbrev cJ4_isElementIndex : ByteArray := prog_71_method_26_code
def yJ4_isElementIndex : MethodName := ⟨RJ4, "isElementIndex", "(I)Z"⟩
def dkwJ4_isElementIndex_0 : List UInt8 := [27, 155, 0, 15, 27, 42, 180, 0, 7, 162, 0, 7, 4, 167, 0, 4, 3, 172]
abbrev dktJ4_isElementIndex_0 : List UInt8 := dkwJ4_isElementIndex_0 ++ []
theorem dksJ4_isElementIndex_0 : cJ4_isElementIndex.data.toList.drop 0 = dktJ4_isElementIndex_0 := by decide +kernel
theorem dJ4_isElementIndex_0 : decode cJ4_isElementIndex 0 = .ok (.iload_n 1, 1) := dk_27 (dk_at dksJ4_isElementIndex_0 0 rfl rfl)
theorem dJ4_isElementIndex_1 : decode cJ4_isElementIndex 1 = .ok (.ifCond .lt 15, 3) := dk_155 0 15 (dk_at dksJ4_isElementIndex_0 1 rfl rfl)
theorem dJ4_isElementIndex_4 : decode cJ4_isElementIndex 4 = .ok (.iload_n 1, 1) := dk_27 (dk_at dksJ4_isElementIndex_0 4 rfl rfl)
theorem dJ4_isElementIndex_5 : decode cJ4_isElementIndex 5 = .ok (.aload_n 0, 1) := dk_42 (dk_at dksJ4_isElementIndex_0 5 rfl rfl)
theorem dJ4_isElementIndex_6 : decode cJ4_isElementIndex 6 = .ok (.getfield 7, 3) := dk_180 0 7 (dk_at dksJ4_isElementIndex_0 6 rfl rfl)
theorem dJ4_isElementIndex_9 : decode cJ4_isElementIndex 9 = .ok (.if_icmp .ge 7, 3) := dk_162 0 7 (dk_at dksJ4_isElementIndex_0 9 rfl rfl)
theorem dJ4_isElementIndex_12 : decode cJ4_isElementIndex 12 = .ok (.iconst 1, 1) := dk_4 (dk_at dksJ4_isElementIndex_0 12 rfl rfl)
theorem dJ4_isElementIndex_13 : decode cJ4_isElementIndex 13 = .ok (.goto 4, 3) := dk_167 0 4 (dk_at dksJ4_isElementIndex_0 13 rfl rfl)
theorem dJ4_isElementIndex_16 : decode cJ4_isElementIndex 16 = .ok (.iconst 0, 1) := dk_3 (dk_at dksJ4_isElementIndex_0 16 rfl rfl)
theorem dJ4_isElementIndex_17 : decode cJ4_isElementIndex 17 = .ok (.ireturn, 1) := dk_172 (dk_at dksJ4_isElementIndex_0 17 rfl rfl)
abbrev cJ4_outOfBoundsMsg : ByteArray := prog_71_method_28_code
def yJ4_outOfBoundsMsg : MethodName := ⟨RJ4, "outOfBoundsMsg", "(I)Ljava/lang/String;"⟩
def dkwJ4_outOfBoundsMsg_1 : List UInt8 := [180, 0, 7, 182, 0, 106, 182, 0, 111, 176]
abbrev dktJ4_outOfBoundsMsg_1 : List UInt8 := dkwJ4_outOfBoundsMsg_1 ++ []
def dkwJ4_outOfBoundsMsg_0 : List UInt8 := [187, 0, 97, 89, 183, 0, 99, 18, 100, 182, 0, 102, 27, 182, 0, 106, 18, 109, 182, 0, 102, 42]
abbrev dktJ4_outOfBoundsMsg_0 : List UInt8 := dkwJ4_outOfBoundsMsg_0 ++ dktJ4_outOfBoundsMsg_1
theorem dksJ4_outOfBoundsMsg_0 : cJ4_outOfBoundsMsg.data.toList.drop 0 = dktJ4_outOfBoundsMsg_0 := by decide +kernel
theorem dksJ4_outOfBoundsMsg_1 : cJ4_outOfBoundsMsg.data.toList.drop 22 = dktJ4_outOfBoundsMsg_1 := dk_seg dksJ4_outOfBoundsMsg_0 22 rfl rfl
theorem dJ4_outOfBoundsMsg_0 : decode cJ4_outOfBoundsMsg 0 = .ok (.new 97, 3) := dk_187 0 97 (dk_at dksJ4_outOfBoundsMsg_0 0 rfl rfl)
theorem dJ4_outOfBoundsMsg_3 : decode cJ4_outOfBoundsMsg 3 = .ok (.dup, 1) := dk_89 (dk_at dksJ4_outOfBoundsMsg_0 3 rfl rfl)
theorem dJ4_outOfBoundsMsg_4 : decode cJ4_outOfBoundsMsg 4 = .ok (.invokespecial 99, 3) := dk_183 0 99 (dk_at dksJ4_outOfBoundsMsg_0 4 rfl rfl)
theorem dJ4_outOfBoundsMsg_7 : decode cJ4_outOfBoundsMsg 7 = .ok (.ldc 100, 2) := dk_18 100 (dk_at dksJ4_outOfBoundsMsg_0 7 rfl rfl)
theorem dJ4_outOfBoundsMsg_9 : decode cJ4_outOfBoundsMsg 9 = .ok (.invokevirtual 102, 3) := dk_182 0 102 (dk_at dksJ4_outOfBoundsMsg_0 9 rfl rfl)
theorem dJ4_outOfBoundsMsg_12 : decode cJ4_outOfBoundsMsg 12 = .ok (.iload_n 1, 1) := dk_27 (dk_at dksJ4_outOfBoundsMsg_0 12 rfl rfl)
theorem dJ4_outOfBoundsMsg_13 : decode cJ4_outOfBoundsMsg 13 = .ok (.invokevirtual 106, 3) := dk_182 0 106 (dk_at dksJ4_outOfBoundsMsg_0 13 rfl rfl)
theorem dJ4_outOfBoundsMsg_16 : decode cJ4_outOfBoundsMsg 16 = .ok (.ldc 109, 2) := dk_18 109 (dk_at dksJ4_outOfBoundsMsg_0 16 rfl rfl)
theorem dJ4_outOfBoundsMsg_18 : decode cJ4_outOfBoundsMsg 18 = .ok (.invokevirtual 102, 3) := dk_182 0 102 (dk_at dksJ4_outOfBoundsMsg_0 18 rfl rfl)
theorem dJ4_outOfBoundsMsg_21 : decode cJ4_outOfBoundsMsg 21 = .ok (.aload_n 0, 1) := dk_42 (dk_at dksJ4_outOfBoundsMsg_0 21 rfl rfl)
theorem dJ4_outOfBoundsMsg_22 : decode cJ4_outOfBoundsMsg 22 = .ok (.getfield 7, 3) := dk_180 0 7 (dk_at dksJ4_outOfBoundsMsg_1 0 rfl rfl)
theorem dJ4_outOfBoundsMsg_25 : decode cJ4_outOfBoundsMsg 25 = .ok (.invokevirtual 106, 3) := dk_182 0 106 (dk_at dksJ4_outOfBoundsMsg_1 3 rfl rfl)
theorem dJ4_outOfBoundsMsg_28 : decode cJ4_outOfBoundsMsg 28 = .ok (.invokevirtual 111, 3) := dk_182 0 111 (dk_at dksJ4_outOfBoundsMsg_1 6 rfl rfl)
theorem dJ4_outOfBoundsMsg_31 : decode cJ4_outOfBoundsMsg 31 = .ok (.areturn, 1) := dk_176 (dk_at dksJ4_outOfBoundsMsg_1 9 rfl rfl)
abbrev cJ4_node : ByteArray := prog_71_method_31_code
def yJ4_node : MethodName := ⟨RJ4, "node", "(I)Ljava/util/LinkedList$Node;"⟩
def dkwJ4_node_2 : List UInt8 := [29, 27, 164, 0, 14, 44, 180, 0, 30, 77, 132, 3, 255, 167, 255, 243, 44, 176]
abbrev dktJ4_node_2 : List UInt8 := dkwJ4_node_2 ++ []
def dkwJ4_node_1 : List UInt8 := [180, 0, 36, 77, 132, 3, 1, 167, 255, 243, 44, 176, 42, 180, 0, 27, 77, 42, 180, 0, 7, 4, 100, 62]
abbrev dktJ4_node_1 : List UInt8 := dkwJ4_node_1 ++ dktJ4_node_2
def dkwJ4_node_0 : List UInt8 := [27, 42, 180, 0, 7, 4, 122, 162, 0, 28, 42, 180, 0, 18, 77, 3, 62, 29, 27, 162, 0, 14, 44]
abbrev dktJ4_node_0 : List UInt8 := dkwJ4_node_0 ++ dktJ4_node_1
theorem dksJ4_node_0 : cJ4_node.data.toList.drop 0 = dktJ4_node_0 := by decide +kernel
theorem dksJ4_node_1 : cJ4_node.data.toList.drop 23 = dktJ4_node_1 := dk_seg dksJ4_node_0 23 rfl rfl
theorem dksJ4_node_2 : cJ4_node.data.toList.drop 47 = dktJ4_node_2 := dk_seg dksJ4_node_1 24 rfl rfl
theorem dJ4_node_0 : decode cJ4_node 0 = .ok (.iload_n 1, 1) := dk_27 (dk_at dksJ4_node_0 0 rfl rfl)
theorem dJ4_node_1 : decode cJ4_node 1 = .ok (.aload_n 0, 1) := dk_42 (dk_at dksJ4_node_0 1 rfl rfl)
theorem dJ4_node_2 : decode cJ4_node 2 = .ok (.getfield 7, 3) := dk_180 0 7 (dk_at dksJ4_node_0 2 rfl rfl)
theorem dJ4_node_5 : decode cJ4_node 5 = .ok (.iconst 1, 1) := dk_4 (dk_at dksJ4_node_0 5 rfl rfl)
theorem dJ4_node_6 : decode cJ4_node 6 = .ok (.ishr, 1) := dk_122 (dk_at dksJ4_node_0 6 rfl rfl)
theorem dJ4_node_7 : decode cJ4_node 7 = .ok (.if_icmp .ge 28, 3) := dk_162 0 28 (dk_at dksJ4_node_0 7 rfl rfl)
theorem dJ4_node_10 : decode cJ4_node 10 = .ok (.aload_n 0, 1) := dk_42 (dk_at dksJ4_node_0 10 rfl rfl)
theorem dJ4_node_11 : decode cJ4_node 11 = .ok (.getfield 18, 3) := dk_180 0 18 (dk_at dksJ4_node_0 11 rfl rfl)
theorem dJ4_node_14 : decode cJ4_node 14 = .ok (.astore_n 2, 1) := dk_77 (dk_at dksJ4_node_0 14 rfl rfl)
theorem dJ4_node_15 : decode cJ4_node 15 = .ok (.iconst 0, 1) := dk_3 (dk_at dksJ4_node_0 15 rfl rfl)
theorem dJ4_node_16 : decode cJ4_node 16 = .ok (.istore_n 3, 1) := dk_62 (dk_at dksJ4_node_0 16 rfl rfl)
theorem dJ4_node_17 : decode cJ4_node 17 = .ok (.iload_n 3, 1) := dk_29 (dk_at dksJ4_node_0 17 rfl rfl)
theorem dJ4_node_18 : decode cJ4_node 18 = .ok (.iload_n 1, 1) := dk_27 (dk_at dksJ4_node_0 18 rfl rfl)
theorem dJ4_node_19 : decode cJ4_node 19 = .ok (.if_icmp .ge 14, 3) := dk_162 0 14 (dk_at dksJ4_node_0 19 rfl rfl)
theorem dJ4_node_22 : decode cJ4_node 22 = .ok (.aload_n 2, 1) := dk_44 (dk_at dksJ4_node_0 22 rfl rfl)
theorem dJ4_node_23 : decode cJ4_node 23 = .ok (.getfield 36, 3) := dk_180 0 36 (dk_at dksJ4_node_1 0 rfl rfl)
theorem dJ4_node_26 : decode cJ4_node 26 = .ok (.astore_n 2, 1) := dk_77 (dk_at dksJ4_node_1 3 rfl rfl)
theorem dJ4_node_27 : decode cJ4_node 27 = .ok (.iinc 3 1, 3) := dk_132 3 1 (dk_at dksJ4_node_1 4 rfl rfl)
theorem dJ4_node_30 : decode cJ4_node 30 = .ok (.goto (-13), 3) := dk_167 255 243 (dk_at dksJ4_node_1 7 rfl rfl)
theorem dJ4_node_33 : decode cJ4_node 33 = .ok (.aload_n 2, 1) := dk_44 (dk_at dksJ4_node_1 10 rfl rfl)
theorem dJ4_node_34 : decode cJ4_node 34 = .ok (.areturn, 1) := dk_176 (dk_at dksJ4_node_1 11 rfl rfl)
theorem dJ4_node_35 : decode cJ4_node 35 = .ok (.aload_n 0, 1) := dk_42 (dk_at dksJ4_node_1 12 rfl rfl)
theorem dJ4_node_36 : decode cJ4_node 36 = .ok (.getfield 27, 3) := dk_180 0 27 (dk_at dksJ4_node_1 13 rfl rfl)
theorem dJ4_node_39 : decode cJ4_node 39 = .ok (.astore_n 2, 1) := dk_77 (dk_at dksJ4_node_1 16 rfl rfl)
theorem dJ4_node_40 : decode cJ4_node 40 = .ok (.aload_n 0, 1) := dk_42 (dk_at dksJ4_node_1 17 rfl rfl)
theorem dJ4_node_41 : decode cJ4_node 41 = .ok (.getfield 7, 3) := dk_180 0 7 (dk_at dksJ4_node_1 18 rfl rfl)
theorem dJ4_node_44 : decode cJ4_node 44 = .ok (.iconst 1, 1) := dk_4 (dk_at dksJ4_node_1 21 rfl rfl)
theorem dJ4_node_45 : decode cJ4_node 45 = .ok (.isub, 1) := dk_100 (dk_at dksJ4_node_1 22 rfl rfl)
theorem dJ4_node_46 : decode cJ4_node 46 = .ok (.istore_n 3, 1) := dk_62 (dk_at dksJ4_node_1 23 rfl rfl)
theorem dJ4_node_47 : decode cJ4_node 47 = .ok (.iload_n 3, 1) := dk_29 (dk_at dksJ4_node_2 0 rfl rfl)
theorem dJ4_node_48 : decode cJ4_node 48 = .ok (.iload_n 1, 1) := dk_27 (dk_at dksJ4_node_2 1 rfl rfl)
theorem dJ4_node_49 : decode cJ4_node 49 = .ok (.if_icmp .le 14, 3) := dk_164 0 14 (dk_at dksJ4_node_2 2 rfl rfl)
theorem dJ4_node_52 : decode cJ4_node 52 = .ok (.aload_n 2, 1) := dk_44 (dk_at dksJ4_node_2 5 rfl rfl)
theorem dJ4_node_53 : decode cJ4_node 53 = .ok (.getfield 30, 3) := dk_180 0 30 (dk_at dksJ4_node_2 6 rfl rfl)
theorem dJ4_node_56 : decode cJ4_node 56 = .ok (.astore_n 2, 1) := dk_77 (dk_at dksJ4_node_2 9 rfl rfl)
theorem dJ4_node_57 : decode cJ4_node 57 = .ok (.iinc 3 (-1), 3) := dk_132 3 255 (dk_at dksJ4_node_2 10 rfl rfl)
theorem dJ4_node_60 : decode cJ4_node 60 = .ok (.goto (-13), 3) := dk_167 255 243 (dk_at dksJ4_node_2 13 rfl rfl)
theorem dJ4_node_63 : decode cJ4_node 63 = .ok (.aload_n 2, 1) := dk_44 (dk_at dksJ4_node_2 16 rfl rfl)
theorem dJ4_node_64 : decode cJ4_node 64 = .ok (.areturn, 1) := dk_176 (dk_at dksJ4_node_2 17 rfl rfl)
abbrev cJ4_addLast : ByteArray := prog_71_method_14_code
def yJ4_addLast : MethodName := ⟨RJ4, "addLast", "(Ljava/lang/Object;)V"⟩
def dkwJ4_addLast_0 : List UInt8 := [42, 43, 182, 0, 57, 177]
abbrev dktJ4_addLast_0 : List UInt8 := dkwJ4_addLast_0 ++ []
theorem dksJ4_addLast_0 : cJ4_addLast.data.toList.drop 0 = dktJ4_addLast_0 := by decide +kernel
theorem dJ4_addLast_0 : decode cJ4_addLast 0 = .ok (.aload_n 0, 1) := dk_42 (dk_at dksJ4_addLast_0 0 rfl rfl)
theorem dJ4_addLast_1 : decode cJ4_addLast 1 = .ok (.aload_n 1, 1) := dk_43 (dk_at dksJ4_addLast_0 1 rfl rfl)
theorem dJ4_addLast_2 : decode cJ4_addLast 2 = .ok (.invokevirtual 57, 3) := dk_182 0 57 (dk_at dksJ4_addLast_0 2 rfl rfl)
theorem dJ4_addLast_5 : decode cJ4_addLast 5 = .ok (.return_, 1) := dk_177 (dk_at dksJ4_addLast_0 5 rfl rfl)
abbrev cJ4_linkLast : ByteArray := prog_71_method_4_code
def yJ4_linkLast : MethodName := ⟨RJ4, "linkLast", "(Ljava/lang/Object;)V"⟩
def dkwJ4_linkLast_2 : List UInt8 := [181, 0, 7, 42, 89, 180, 0, 33, 4, 96, 181, 0, 33, 177]
abbrev dktJ4_linkLast_2 : List UInt8 := dkwJ4_linkLast_2 ++ []
def dkwJ4_linkLast_1 : List UInt8 := [199, 0, 11, 42, 45, 181, 0, 18, 167, 0, 8, 44, 45, 181, 0, 36, 42, 89, 180, 0, 7, 4, 96]
abbrev dktJ4_linkLast_1 : List UInt8 := dkwJ4_linkLast_1 ++ dktJ4_linkLast_2
def dkwJ4_linkLast_0 : List UInt8 := [42, 180, 0, 27, 77, 187, 0, 22, 89, 44, 43, 1, 183, 0, 24, 78, 42, 45, 181, 0, 27, 44]
abbrev dktJ4_linkLast_0 : List UInt8 := dkwJ4_linkLast_0 ++ dktJ4_linkLast_1
theorem dksJ4_linkLast_0 : cJ4_linkLast.data.toList.drop 0 = dktJ4_linkLast_0 := by decide +kernel
theorem dksJ4_linkLast_1 : cJ4_linkLast.data.toList.drop 22 = dktJ4_linkLast_1 := dk_seg dksJ4_linkLast_0 22 rfl rfl
theorem dksJ4_linkLast_2 : cJ4_linkLast.data.toList.drop 45 = dktJ4_linkLast_2 := dk_seg dksJ4_linkLast_1 23 rfl rfl
theorem dJ4_linkLast_0 : decode cJ4_linkLast 0 = .ok (.aload_n 0, 1) := dk_42 (dk_at dksJ4_linkLast_0 0 rfl rfl)
theorem dJ4_linkLast_1 : decode cJ4_linkLast 1 = .ok (.getfield 27, 3) := dk_180 0 27 (dk_at dksJ4_linkLast_0 1 rfl rfl)
theorem dJ4_linkLast_4 : decode cJ4_linkLast 4 = .ok (.astore_n 2, 1) := dk_77 (dk_at dksJ4_linkLast_0 4 rfl rfl)
theorem dJ4_linkLast_5 : decode cJ4_linkLast 5 = .ok (.new 22, 3) := dk_187 0 22 (dk_at dksJ4_linkLast_0 5 rfl rfl)
theorem dJ4_linkLast_8 : decode cJ4_linkLast 8 = .ok (.dup, 1) := dk_89 (dk_at dksJ4_linkLast_0 8 rfl rfl)
theorem dJ4_linkLast_9 : decode cJ4_linkLast 9 = .ok (.aload_n 2, 1) := dk_44 (dk_at dksJ4_linkLast_0 9 rfl rfl)
theorem dJ4_linkLast_10 : decode cJ4_linkLast 10 = .ok (.aload_n 1, 1) := dk_43 (dk_at dksJ4_linkLast_0 10 rfl rfl)
theorem dJ4_linkLast_11 : decode cJ4_linkLast 11 = .ok (.aconst_null, 1) := dk_1 (dk_at dksJ4_linkLast_0 11 rfl rfl)
theorem dJ4_linkLast_12 : decode cJ4_linkLast 12 = .ok (.invokespecial 24, 3) := dk_183 0 24 (dk_at dksJ4_linkLast_0 12 rfl rfl)
theorem dJ4_linkLast_15 : decode cJ4_linkLast 15 = .ok (.astore_n 3, 1) := dk_78 (dk_at dksJ4_linkLast_0 15 rfl rfl)
theorem dJ4_linkLast_16 : decode cJ4_linkLast 16 = .ok (.aload_n 0, 1) := dk_42 (dk_at dksJ4_linkLast_0 16 rfl rfl)
theorem dJ4_linkLast_17 : decode cJ4_linkLast 17 = .ok (.aload_n 3, 1) := dk_45 (dk_at dksJ4_linkLast_0 17 rfl rfl)
theorem dJ4_linkLast_18 : decode cJ4_linkLast 18 = .ok (.putfield 27, 3) := dk_181 0 27 (dk_at dksJ4_linkLast_0 18 rfl rfl)
theorem dJ4_linkLast_21 : decode cJ4_linkLast 21 = .ok (.aload_n 2, 1) := dk_44 (dk_at dksJ4_linkLast_0 21 rfl rfl)
theorem dJ4_linkLast_22 : decode cJ4_linkLast 22 = .ok (.ifnonnull 11, 3) := dk_199 0 11 (dk_at dksJ4_linkLast_1 0 rfl rfl)
theorem dJ4_linkLast_25 : decode cJ4_linkLast 25 = .ok (.aload_n 0, 1) := dk_42 (dk_at dksJ4_linkLast_1 3 rfl rfl)
theorem dJ4_linkLast_26 : decode cJ4_linkLast 26 = .ok (.aload_n 3, 1) := dk_45 (dk_at dksJ4_linkLast_1 4 rfl rfl)
theorem dJ4_linkLast_27 : decode cJ4_linkLast 27 = .ok (.putfield 18, 3) := dk_181 0 18 (dk_at dksJ4_linkLast_1 5 rfl rfl)
theorem dJ4_linkLast_30 : decode cJ4_linkLast 30 = .ok (.goto 8, 3) := dk_167 0 8 (dk_at dksJ4_linkLast_1 8 rfl rfl)
theorem dJ4_linkLast_33 : decode cJ4_linkLast 33 = .ok (.aload_n 2, 1) := dk_44 (dk_at dksJ4_linkLast_1 11 rfl rfl)
theorem dJ4_linkLast_34 : decode cJ4_linkLast 34 = .ok (.aload_n 3, 1) := dk_45 (dk_at dksJ4_linkLast_1 12 rfl rfl)
theorem dJ4_linkLast_35 : decode cJ4_linkLast 35 = .ok (.putfield 36, 3) := dk_181 0 36 (dk_at dksJ4_linkLast_1 13 rfl rfl)
theorem dJ4_linkLast_38 : decode cJ4_linkLast 38 = .ok (.aload_n 0, 1) := dk_42 (dk_at dksJ4_linkLast_1 16 rfl rfl)
theorem dJ4_linkLast_39 : decode cJ4_linkLast 39 = .ok (.dup, 1) := dk_89 (dk_at dksJ4_linkLast_1 17 rfl rfl)
theorem dJ4_linkLast_40 : decode cJ4_linkLast 40 = .ok (.getfield 7, 3) := dk_180 0 7 (dk_at dksJ4_linkLast_1 18 rfl rfl)
theorem dJ4_linkLast_43 : decode cJ4_linkLast 43 = .ok (.iconst 1, 1) := dk_4 (dk_at dksJ4_linkLast_1 21 rfl rfl)
theorem dJ4_linkLast_44 : decode cJ4_linkLast 44 = .ok (.iadd, 1) := dk_96 (dk_at dksJ4_linkLast_1 22 rfl rfl)
theorem dJ4_linkLast_45 : decode cJ4_linkLast 45 = .ok (.putfield 7, 3) := dk_181 0 7 (dk_at dksJ4_linkLast_2 0 rfl rfl)
theorem dJ4_linkLast_48 : decode cJ4_linkLast 48 = .ok (.aload_n 0, 1) := dk_42 (dk_at dksJ4_linkLast_2 3 rfl rfl)
theorem dJ4_linkLast_49 : decode cJ4_linkLast 49 = .ok (.dup, 1) := dk_89 (dk_at dksJ4_linkLast_2 4 rfl rfl)
theorem dJ4_linkLast_50 : decode cJ4_linkLast 50 = .ok (.getfield 33, 3) := dk_180 0 33 (dk_at dksJ4_linkLast_2 5 rfl rfl)
theorem dJ4_linkLast_53 : decode cJ4_linkLast 53 = .ok (.iconst 1, 1) := dk_4 (dk_at dksJ4_linkLast_2 8 rfl rfl)
theorem dJ4_linkLast_54 : decode cJ4_linkLast 54 = .ok (.iadd, 1) := dk_96 (dk_at dksJ4_linkLast_2 9 rfl rfl)
theorem dJ4_linkLast_55 : decode cJ4_linkLast 55 = .ok (.putfield 33, 3) := dk_181 0 33 (dk_at dksJ4_linkLast_2 10 rfl rfl)
theorem dJ4_linkLast_58 : decode cJ4_linkLast 58 = .ok (.return_, 1) := dk_177 (dk_at dksJ4_linkLast_2 13 rfl rfl)
abbrev cJ4_removeFirst : ByteArray := prog_71_method_11_code
def yJ4_removeFirst : MethodName := ⟨RJ4, "removeFirst", "()Ljava/lang/Object;"⟩
def dkwJ4_removeFirst_0 : List UInt8 := [42, 180, 0, 18, 76, 43, 199, 0, 11, 187, 0, 43, 89, 183, 0, 45, 191, 42, 43, 182, 0, 46, 176]
abbrev dktJ4_removeFirst_0 : List UInt8 := dkwJ4_removeFirst_0 ++ []
theorem dksJ4_removeFirst_0 : cJ4_removeFirst.data.toList.drop 0 = dktJ4_removeFirst_0 := by decide +kernel
theorem dJ4_removeFirst_0 : decode cJ4_removeFirst 0 = .ok (.aload_n 0, 1) := dk_42 (dk_at dksJ4_removeFirst_0 0 rfl rfl)
theorem dJ4_removeFirst_1 : decode cJ4_removeFirst 1 = .ok (.getfield 18, 3) := dk_180 0 18 (dk_at dksJ4_removeFirst_0 1 rfl rfl)
theorem dJ4_removeFirst_4 : decode cJ4_removeFirst 4 = .ok (.astore_n 1, 1) := dk_76 (dk_at dksJ4_removeFirst_0 4 rfl rfl)
theorem dJ4_removeFirst_5 : decode cJ4_removeFirst 5 = .ok (.aload_n 1, 1) := dk_43 (dk_at dksJ4_removeFirst_0 5 rfl rfl)
theorem dJ4_removeFirst_6 : decode cJ4_removeFirst 6 = .ok (.ifnonnull 11, 3) := dk_199 0 11 (dk_at dksJ4_removeFirst_0 6 rfl rfl)
theorem dJ4_removeFirst_9 : decode cJ4_removeFirst 9 = .ok (.new 43, 3) := dk_187 0 43 (dk_at dksJ4_removeFirst_0 9 rfl rfl)
theorem dJ4_removeFirst_12 : decode cJ4_removeFirst 12 = .ok (.dup, 1) := dk_89 (dk_at dksJ4_removeFirst_0 12 rfl rfl)
theorem dJ4_removeFirst_13 : decode cJ4_removeFirst 13 = .ok (.invokespecial 45, 3) := dk_183 0 45 (dk_at dksJ4_removeFirst_0 13 rfl rfl)
theorem dJ4_removeFirst_16 : decode cJ4_removeFirst 16 = .ok (.athrow, 1) := dk_191 (dk_at dksJ4_removeFirst_0 16 rfl rfl)
theorem dJ4_removeFirst_17 : decode cJ4_removeFirst 17 = .ok (.aload_n 0, 1) := dk_42 (dk_at dksJ4_removeFirst_0 17 rfl rfl)
theorem dJ4_removeFirst_18 : decode cJ4_removeFirst 18 = .ok (.aload_n 1, 1) := dk_43 (dk_at dksJ4_removeFirst_0 18 rfl rfl)
theorem dJ4_removeFirst_19 : decode cJ4_removeFirst 19 = .ok (.invokevirtual 46, 3) := dk_182 0 46 (dk_at dksJ4_removeFirst_0 19 rfl rfl)
theorem dJ4_removeFirst_22 : decode cJ4_removeFirst 22 = .ok (.areturn, 1) := dk_176 (dk_at dksJ4_removeFirst_0 22 rfl rfl)
abbrev cJ4_unlinkFirst : ByteArray := prog_71_method_6_code
def yJ4_unlinkFirst : MethodName := ⟨RJ4, "unlinkFirst", "(Ljava/util/LinkedList$Node;)Ljava/lang/Object;"⟩
def dkwJ4_unlinkFirst_2 : List UInt8 := [180, 0, 7, 4, 100, 181, 0, 7, 42, 89, 180, 0, 33, 4, 96, 181, 0, 33, 44, 176]
abbrev dktJ4_unlinkFirst_2 : List UInt8 := dkwJ4_unlinkFirst_2 ++ []
def dkwJ4_unlinkFirst_1 : List UInt8 := [181, 0, 18, 45, 199, 0, 11, 42, 1, 181, 0, 27, 167, 0, 8, 45, 1, 181, 0, 30, 42, 89]
abbrev dktJ4_unlinkFirst_1 : List UInt8 := dkwJ4_unlinkFirst_1 ++ dktJ4_unlinkFirst_2
def dkwJ4_unlinkFirst_0 : List UInt8 := [43, 180, 0, 39, 77, 43, 180, 0, 36, 78, 43, 1, 181, 0, 39, 43, 1, 181, 0, 36, 42, 45]
abbrev dktJ4_unlinkFirst_0 : List UInt8 := dkwJ4_unlinkFirst_0 ++ dktJ4_unlinkFirst_1
theorem dksJ4_unlinkFirst_0 : cJ4_unlinkFirst.data.toList.drop 0 = dktJ4_unlinkFirst_0 := by decide +kernel
theorem dksJ4_unlinkFirst_1 : cJ4_unlinkFirst.data.toList.drop 22 = dktJ4_unlinkFirst_1 := dk_seg dksJ4_unlinkFirst_0 22 rfl rfl
theorem dksJ4_unlinkFirst_2 : cJ4_unlinkFirst.data.toList.drop 44 = dktJ4_unlinkFirst_2 := dk_seg dksJ4_unlinkFirst_1 22 rfl rfl
theorem dJ4_unlinkFirst_0 : decode cJ4_unlinkFirst 0 = .ok (.aload_n 1, 1) := dk_43 (dk_at dksJ4_unlinkFirst_0 0 rfl rfl)
theorem dJ4_unlinkFirst_1 : decode cJ4_unlinkFirst 1 = .ok (.getfield 39, 3) := dk_180 0 39 (dk_at dksJ4_unlinkFirst_0 1 rfl rfl)
theorem dJ4_unlinkFirst_4 : decode cJ4_unlinkFirst 4 = .ok (.astore_n 2, 1) := dk_77 (dk_at dksJ4_unlinkFirst_0 4 rfl rfl)
theorem dJ4_unlinkFirst_5 : decode cJ4_unlinkFirst 5 = .ok (.aload_n 1, 1) := dk_43 (dk_at dksJ4_unlinkFirst_0 5 rfl rfl)
theorem dJ4_unlinkFirst_6 : decode cJ4_unlinkFirst 6 = .ok (.getfield 36, 3) := dk_180 0 36 (dk_at dksJ4_unlinkFirst_0 6 rfl rfl)
theorem dJ4_unlinkFirst_9 : decode cJ4_unlinkFirst 9 = .ok (.astore_n 3, 1) := dk_78 (dk_at dksJ4_unlinkFirst_0 9 rfl rfl)
theorem dJ4_unlinkFirst_10 : decode cJ4_unlinkFirst 10 = .ok (.aload_n 1, 1) := dk_43 (dk_at dksJ4_unlinkFirst_0 10 rfl rfl)
theorem dJ4_unlinkFirst_11 : decode cJ4_unlinkFirst 11 = .ok (.aconst_null, 1) := dk_1 (dk_at dksJ4_unlinkFirst_0 11 rfl rfl)
theorem dJ4_unlinkFirst_12 : decode cJ4_unlinkFirst 12 = .ok (.putfield 39, 3) := dk_181 0 39 (dk_at dksJ4_unlinkFirst_0 12 rfl rfl)
theorem dJ4_unlinkFirst_15 : decode cJ4_unlinkFirst 15 = .ok (.aload_n 1, 1) := dk_43 (dk_at dksJ4_unlinkFirst_0 15 rfl rfl)
theorem dJ4_unlinkFirst_16 : decode cJ4_unlinkFirst 16 = .ok (.aconst_null, 1) := dk_1 (dk_at dksJ4_unlinkFirst_0 16 rfl rfl)
theorem dJ4_unlinkFirst_17 : decode cJ4_unlinkFirst 17 = .ok (.putfield 36, 3) := dk_181 0 36 (dk_at dksJ4_unlinkFirst_0 17 rfl rfl)
theorem dJ4_unlinkFirst_20 : decode cJ4_unlinkFirst 20 = .ok (.aload_n 0, 1) := dk_42 (dk_at dksJ4_unlinkFirst_0 20 rfl rfl)
theorem dJ4_unlinkFirst_21 : decode cJ4_unlinkFirst 21 = .ok (.aload_n 3, 1) := dk_45 (dk_at dksJ4_unlinkFirst_0 21 rfl rfl)
theorem dJ4_unlinkFirst_22 : decode cJ4_unlinkFirst 22 = .ok (.putfield 18, 3) := dk_181 0 18 (dk_at dksJ4_unlinkFirst_1 0 rfl rfl)
theorem dJ4_unlinkFirst_25 : decode cJ4_unlinkFirst 25 = .ok (.aload_n 3, 1) := dk_45 (dk_at dksJ4_unlinkFirst_1 3 rfl rfl)
theorem dJ4_unlinkFirst_26 : decode cJ4_unlinkFirst 26 = .ok (.ifnonnull 11, 3) := dk_199 0 11 (dk_at dksJ4_unlinkFirst_1 4 rfl rfl)
theorem dJ4_unlinkFirst_29 : decode cJ4_unlinkFirst 29 = .ok (.aload_n 0, 1) := dk_42 (dk_at dksJ4_unlinkFirst_1 7 rfl rfl)
theorem dJ4_unlinkFirst_30 : decode cJ4_unlinkFirst 30 = .ok (.aconst_null, 1) := dk_1 (dk_at dksJ4_unlinkFirst_1 8 rfl rfl)
theorem dJ4_unlinkFirst_31 : decode cJ4_unlinkFirst 31 = .ok (.putfield 27, 3) := dk_181 0 27 (dk_at dksJ4_unlinkFirst_1 9 rfl rfl)
theorem dJ4_unlinkFirst_34 : decode cJ4_unlinkFirst 34 = .ok (.goto 8, 3) := dk_167 0 8 (dk_at dksJ4_unlinkFirst_1 12 rfl rfl)
theorem dJ4_unlinkFirst_37 : decode cJ4_unlinkFirst 37 = .ok (.aload_n 3, 1) := dk_45 (dk_at dksJ4_unlinkFirst_1 15 rfl rfl)
theorem dJ4_unlinkFirst_38 : decode cJ4_unlinkFirst 38 = .ok (.aconst_null, 1) := dk_1 (dk_at dksJ4_unlinkFirst_1 16 rfl rfl)
theorem dJ4_unlinkFirst_39 : decode cJ4_unlinkFirst 39 = .ok (.putfield 30, 3) := dk_181 0 30 (dk_at dksJ4_unlinkFirst_1 17 rfl rfl)
theorem dJ4_unlinkFirst_42 : decode cJ4_unlinkFirst 42 = .ok (.aload_n 0, 1) := dk_42 (dk_at dksJ4_unlinkFirst_1 20 rfl rfl)
theorem dJ4_unlinkFirst_43 : decode cJ4_unlinkFirst 43 = .ok (.dup, 1) := dk_89 (dk_at dksJ4_unlinkFirst_1 21 rfl rfl)
theorem dJ4_unlinkFirst_44 : decode cJ4_unlinkFirst 44 = .ok (.getfield 7, 3) := dk_180 0 7 (dk_at dksJ4_unlinkFirst_2 0 rfl rfl)
theorem dJ4_unlinkFirst_47 : decode cJ4_unlinkFirst 47 = .ok (.iconst 1, 1) := dk_4 (dk_at dksJ4_unlinkFirst_2 3 rfl rfl)
theorem dJ4_unlinkFirst_48 : decode cJ4_unlinkFirst 48 = .ok (.isub, 1) := dk_100 (dk_at dksJ4_unlinkFirst_2 4 rfl rfl)
theorem dJ4_unlinkFirst_49 : decode cJ4_unlinkFirst 49 = .ok (.putfield 7, 3) := dk_181 0 7 (dk_at dksJ4_unlinkFirst_2 5 rfl rfl)
theorem dJ4_unlinkFirst_52 : decode cJ4_unlinkFirst 52 = .ok (.aload_n 0, 1) := dk_42 (dk_at dksJ4_unlinkFirst_2 8 rfl rfl)
theorem dJ4_unlinkFirst_53 : decode cJ4_unlinkFirst 53 = .ok (.dup, 1) := dk_89 (dk_at dksJ4_unlinkFirst_2 9 rfl rfl)
theorem dJ4_unlinkFirst_54 : decode cJ4_unlinkFirst 54 = .ok (.getfield 33, 3) := dk_180 0 33 (dk_at dksJ4_unlinkFirst_2 10 rfl rfl)
theorem dJ4_unlinkFirst_57 : decode cJ4_unlinkFirst 57 = .ok (.iconst 1, 1) := dk_4 (dk_at dksJ4_unlinkFirst_2 13 rfl rfl)
theorem dJ4_unlinkFirst_58 : decode cJ4_unlinkFirst 58 = .ok (.iadd, 1) := dk_96 (dk_at dksJ4_unlinkFirst_2 14 rfl rfl)
theorem dJ4_unlinkFirst_59 : decode cJ4_unlinkFirst 59 = .ok (.putfield 33, 3) := dk_181 0 33 (dk_at dksJ4_unlinkFirst_2 15 rfl rfl)
theorem dJ4_unlinkFirst_62 : decode cJ4_unlinkFirst 62 = .ok (.aload_n 2, 1) := dk_44 (dk_at dksJ4_unlinkFirst_2 18 rfl rfl)
theorem dJ4_unlinkFirst_63 : decode cJ4_unlinkFirst 63 = .ok (.areturn, 1) := dk_176 (dk_at dksJ4_unlinkFirst_2 19 rfl rfl)
abbrev cJ4_remove : ByteArray := prog_71_method_25_code
def yJ4_remove : MethodName := ⟨RJ4, "remove", "(I)Ljava/lang/Object;"⟩
def dkwJ4_remove_0 : List UInt8 := [42, 27, 182, 0, 90, 42, 42, 27, 182, 0, 86, 182, 0, 64, 176]
abbrev dktJ4_remove_0 : List UInt8 := dkwJ4_remove_0 ++ []
theorem dksJ4_remove_0 : cJ4_remove.data.toList.drop 0 = dktJ4_remove_0 := by decide +kernel
theorem dJ4_remove_0 : decode cJ4_remove 0 = .ok (.aload_n 0, 1) := dk_42 (dk_at dksJ4_remove_0 0 rfl rfl)
theorem dJ4_remove_1 : decode cJ4_remove 1 = .ok (.iload_n 1, 1) := dk_27 (dk_at dksJ4_remove_0 1 rfl rfl)
theorem dJ4_remove_2 : decode cJ4_remove 2 = .ok (.invokevirtual 90, 3) := dk_182 0 90 (dk_at dksJ4_remove_0 2 rfl rfl)
theorem dJ4_remove_5 : decode cJ4_remove 5 = .ok (.aload_n 0, 1) := dk_42 (dk_at dksJ4_remove_0 5 rfl rfl)
theorem dJ4_remove_6 : decode cJ4_remove 6 = .ok (.aload_n 0, 1) := dk_42 (dk_at dksJ4_remove_0 6 rfl rfl)
theorem dJ4_remove_7 : decode cJ4_remove 7 = .ok (.iload_n 1, 1) := dk_27 (dk_at dksJ4_remove_0 7 rfl rfl)
theorem dJ4_remove_8 : decode cJ4_remove 8 = .ok (.invokevirtual 86, 3) := dk_182 0 86 (dk_at dksJ4_remove_0 8 rfl rfl)
theorem dJ4_remove_11 : decode cJ4_remove 11 = .ok (.invokevirtual 64, 3) := dk_182 0 64 (dk_at dksJ4_remove_0 11 rfl rfl)
theorem dJ4_remove_14 : decode cJ4_remove 14 = .ok (.areturn, 1) := dk_176 (dk_at dksJ4_remove_0 14 rfl rfl)
abbrev cJ4_unlink : ByteArray := prog_71_method_8_code
def yJ4_unlink : MethodName := ⟨RJ4, "unlink", "(Ljava/util/LinkedList$Node;)Ljava/lang/Object;"⟩
def dkwJ4_unlink_3 : List UInt8 := [180, 0, 7, 4, 100, 181, 0, 7, 42, 89, 180, 0, 33, 4, 96, 181, 0, 33, 44, 176]
abbrev dktJ4_unlink_3 : List UInt8 := dkwJ4_unlink_3 ++ []
def dkwJ4_unlink_2 : List UInt8 := [181, 0, 27, 167, 0, 14, 45, 25, 4, 181, 0, 30, 43, 1, 181, 0, 36, 43, 1, 181, 0, 39, 42, 89]
abbrev dktJ4_unlink_2 : List UInt8 := dkwJ4_unlink_2 ++ dktJ4_unlink_3
def dkwJ4_unlink_1 : List UInt8 := [181, 0, 18, 167, 0, 14, 25, 4, 45, 181, 0, 36, 43, 1, 181, 0, 30, 45, 199, 0, 12, 42, 25, 4]
abbrev dktJ4_unlink_1 : List UInt8 := dkwJ4_unlink_1 ++ dktJ4_unlink_2
def dkwJ4_unlink_0 : List UInt8 := [43, 180, 0, 39, 77, 43, 180, 0, 36, 78, 43, 180, 0, 30, 58, 4, 25, 4, 199, 0, 11, 42, 45]
abbrev dktJ4_unlink_0 : List UInt8 := dkwJ4_unlink_0 ++ dktJ4_unlink_1
theorem dksJ4_unlink_0 : cJ4_unlink.data.toList.drop 0 = dktJ4_unlink_0 := by decide +kernel
theorem dksJ4_unlink_1 : cJ4_unlink.data.toList.drop 23 = dktJ4_unlink_1 := dk_seg dksJ4_unlink_0 23 rfl rfl
theorem dksJ4_unlink_2 : cJ4_unlink.data.toList.drop 47 = dktJ4_unlink_2 := dk_seg dksJ4_unlink_1 24 rfl rfl
theorem dksJ4_unlink_3 : cJ4_unlink.data.toList.drop 71 = dktJ4_unlink_3 := dk_seg dksJ4_unlink_2 24 rfl rfl
theorem dJ4_unlink_0 : decode cJ4_unlink 0 = .ok (.aload_n 1, 1) := dk_43 (dk_at dksJ4_unlink_0 0 rfl rfl)
theorem dJ4_unlink_1 : decode cJ4_unlink 1 = .ok (.getfield 39, 3) := dk_180 0 39 (dk_at dksJ4_unlink_0 1 rfl rfl)
theorem dJ4_unlink_4 : decode cJ4_unlink 4 = .ok (.astore_n 2, 1) := dk_77 (dk_at dksJ4_unlink_0 4 rfl rfl)
theorem dJ4_unlink_5 : decode cJ4_unlink 5 = .ok (.aload_n 1, 1) := dk_43 (dk_at dksJ4_unlink_0 5 rfl rfl)
theorem dJ4_unlink_6 : decode cJ4_unlink 6 = .ok (.getfield 36, 3) := dk_180 0 36 (dk_at dksJ4_unlink_0 6 rfl rfl)
theorem dJ4_unlink_9 : decode cJ4_unlink 9 = .ok (.astore_n 3, 1) := dk_78 (dk_at dksJ4_unlink_0 9 rfl rfl)
theorem dJ4_unlink_10 : decode cJ4_unlink 10 = .ok (.aload_n 1, 1) := dk_43 (dk_at dksJ4_unlink_0 10 rfl rfl)
theorem dJ4_unlink_11 : decode cJ4_unlink 11 = .ok (.getfield 30, 3) := dk_180 0 30 (dk_at dksJ4_unlink_0 11 rfl rfl)
theorem dJ4_unlink_14 : decode cJ4_unlink 14 = .ok (.astore 4, 2) := dk_58 4 (dk_at dksJ4_unlink_0 14 rfl rfl)
theorem dJ4_unlink_16 : decode cJ4_unlink 16 = .ok (.aload 4, 2) := dk_25 4 (dk_at dksJ4_unlink_0 16 rfl rfl)
theorem dJ4_unlink_18 : decode cJ4_unlink 18 = .ok (.ifnonnull 11, 3) := dk_199 0 11 (dk_at dksJ4_unlink_0 18 rfl rfl)
theorem dJ4_unlink_21 : decode cJ4_unlink 21 = .ok (.aload_n 0, 1) := dk_42 (dk_at dksJ4_unlink_0 21 rfl rfl)
theorem dJ4_unlink_22 : decode cJ4_unlink 22 = .ok (.aload_n 3, 1) := dk_45 (dk_at dksJ4_unlink_0 22 rfl rfl)
theorem dJ4_unlink_23 : decode cJ4_unlink 23 = .ok (.putfield 18, 3) := dk_181 0 18 (dk_at dksJ4_unlink_1 0 rfl rfl)
theorem dJ4_unlink_26 : decode cJ4_unlink 26 = .ok (.goto 14, 3) := dk_167 0 14 (dk_at dksJ4_unlink_1 3 rfl rfl)
theorem dJ4_unlink_29 : decode cJ4_unlink 29 = .ok (.aload 4, 2) := dk_25 4 (dk_at dksJ4_unlink_1 6 rfl rfl)
theorem dJ4_unlink_31 : decode cJ4_unlink 31 = .ok (.aload_n 3, 1) := dk_45 (dk_at dksJ4_unlink_1 8 rfl rfl)
theorem dJ4_unlink_32 : decode cJ4_unlink 32 = .ok (.putfield 36, 3) := dk_181 0 36 (dk_at dksJ4_unlink_1 9 rfl rfl)
theorem dJ4_unlink_35 : decode cJ4_unlink 35 = .ok (.aload_n 1, 1) := dk_43 (dk_at dksJ4_unlink_1 12 rfl rfl)
theorem dJ4_unlink_36 : decode cJ4_unlink 36 = .ok (.aconst_null, 1) := dk_1 (dk_at dksJ4_unlink_1 13 rfl rfl)
theorem dJ4_unlink_37 : decode cJ4_unlink 37 = .ok (.putfield 30, 3) := dk_181 0 30 (dk_at dksJ4_unlink_1 14 rfl rfl)
theorem dJ4_unlink_40 : decode cJ4_unlink 40 = .ok (.aload_n 3, 1) := dk_45 (dk_at dksJ4_unlink_1 17 rfl rfl)
theorem dJ4_unlink_41 : decode cJ4_unlink 41 = .ok (.ifnonnull 12, 3) := dk_199 0 12 (dk_at dksJ4_unlink_1 18 rfl rfl)
theorem dJ4_unlink_44 : decode cJ4_unlink 44 = .ok (.aload_n 0, 1) := dk_42 (dk_at dksJ4_unlink_1 21 rfl rfl)
theorem dJ4_unlink_45 : decode cJ4_unlink 45 = .ok (.aload 4, 2) := dk_25 4 (dk_at dksJ4_unlink_1 22 rfl rfl)
theorem dJ4_unlink_47 : decode cJ4_unlink 47 = .ok (.putfield 27, 3) := dk_181 0 27 (dk_at dksJ4_unlink_2 0 rfl rfl)
theorem dJ4_unlink_50 : decode cJ4_unlink 50 = .ok (.goto 14, 3) := dk_167 0 14 (dk_at dksJ4_unlink_2 3 rfl rfl)
theorem dJ4_unlink_53 : decode cJ4_unlink 53 = .ok (.aload_n 3, 1) := dk_45 (dk_at dksJ4_unlink_2 6 rfl rfl)
theorem dJ4_unlink_54 : decode cJ4_unlink 54 = .ok (.aload 4, 2) := dk_25 4 (dk_at dksJ4_unlink_2 7 rfl rfl)
theorem dJ4_unlink_56 : decode cJ4_unlink 56 = .ok (.putfield 30, 3) := dk_181 0 30 (dk_at dksJ4_unlink_2 9 rfl rfl)
theorem dJ4_unlink_59 : decode cJ4_unlink 59 = .ok (.aload_n 1, 1) := dk_43 (dk_at dksJ4_unlink_2 12 rfl rfl)
theorem dJ4_unlink_60 : decode cJ4_unlink 60 = .ok (.aconst_null, 1) := dk_1 (dk_at dksJ4_unlink_2 13 rfl rfl)
theorem dJ4_unlink_61 : decode cJ4_unlink 61 = .ok (.putfield 36, 3) := dk_181 0 36 (dk_at dksJ4_unlink_2 14 rfl rfl)
theorem dJ4_unlink_64 : decode cJ4_unlink 64 = .ok (.aload_n 1, 1) := dk_43 (dk_at dksJ4_unlink_2 17 rfl rfl)
theorem dJ4_unlink_65 : decode cJ4_unlink 65 = .ok (.aconst_null, 1) := dk_1 (dk_at dksJ4_unlink_2 18 rfl rfl)
theorem dJ4_unlink_66 : decode cJ4_unlink 66 = .ok (.putfield 39, 3) := dk_181 0 39 (dk_at dksJ4_unlink_2 19 rfl rfl)
theorem dJ4_unlink_69 : decode cJ4_unlink 69 = .ok (.aload_n 0, 1) := dk_42 (dk_at dksJ4_unlink_2 22 rfl rfl)
theorem dJ4_unlink_70 : decode cJ4_unlink 70 = .ok (.dup, 1) := dk_89 (dk_at dksJ4_unlink_2 23 rfl rfl)
theorem dJ4_unlink_71 : decode cJ4_unlink 71 = .ok (.getfield 7, 3) := dk_180 0 7 (dk_at dksJ4_unlink_3 0 rfl rfl)
theorem dJ4_unlink_74 : decode cJ4_unlink 74 = .ok (.iconst 1, 1) := dk_4 (dk_at dksJ4_unlink_3 3 rfl rfl)
theorem dJ4_unlink_75 : decode cJ4_unlink 75 = .ok (.isub, 1) := dk_100 (dk_at dksJ4_unlink_3 4 rfl rfl)
theorem dJ4_unlink_76 : decode cJ4_unlink 76 = .ok (.putfield 7, 3) := dk_181 0 7 (dk_at dksJ4_unlink_3 5 rfl rfl)
theorem dJ4_unlink_79 : decode cJ4_unlink 79 = .ok (.aload_n 0, 1) := dk_42 (dk_at dksJ4_unlink_3 8 rfl rfl)
theorem dJ4_unlink_80 : decode cJ4_unlink 80 = .ok (.dup, 1) := dk_89 (dk_at dksJ4_unlink_3 9 rfl rfl)
theorem dJ4_unlink_81 : decode cJ4_unlink 81 = .ok (.getfield 33, 3) := dk_180 0 33 (dk_at dksJ4_unlink_3 10 rfl rfl)
theorem dJ4_unlink_84 : decode cJ4_unlink 84 = .ok (.iconst 1, 1) := dk_4 (dk_at dksJ4_unlink_3 13 rfl rfl)
theorem dJ4_unlink_85 : decode cJ4_unlink 85 = .ok (.iadd, 1) := dk_96 (dk_at dksJ4_unlink_3 14 rfl rfl)
theorem dJ4_unlink_86 : decode cJ4_unlink 86 = .ok (.putfield 33, 3) := dk_181 0 33 (dk_at dksJ4_unlink_3 15 rfl rfl)
theorem dJ4_unlink_89 : decode cJ4_unlink 89 = .ok (.aload_n 2, 1) := dk_44 (dk_at dksJ4_unlink_3 18 rfl rfl)
theorem dJ4_unlink_90 : decode cJ4_unlink 90 = .ok (.areturn, 1) := dk_176 (dk_at dksJ4_unlink_3 19 rfl rfl)
abbrev cJ4_listIterator : ByteArray := prog_71_method_49_code
def yJ4_listIterator : MethodName := ⟨RJ4, "listIterator", "(I)Ljava/util/ListIterator;"⟩
def dkwJ4_listIterator_0 : List UInt8 := [42, 27, 182, 0, 76, 187, 0, 150, 89, 42, 27, 183, 0, 152, 176]
abbrev dktJ4_listIterator_0 : List UInt8 := dkwJ4_listIterator_0 ++ []
theorem dksJ4_listIterator_0 : cJ4_listIterator.data.toList.drop 0 = dktJ4_listIterator_0 := by decide +kernel
theorem dJ4_listIterator_0 : decode cJ4_listIterator 0 = .ok (.aload_n 0, 1) := dk_42 (dk_at dksJ4_listIterator_0 0 rfl rfl)
theorem dJ4_listIterator_1 : decode cJ4_listIterator 1 = .ok (.iload_n 1, 1) := dk_27 (dk_at dksJ4_listIterator_0 1 rfl rfl)
theorem dJ4_listIterator_2 : decode cJ4_listIterator 2 = .ok (.invokevirtual 76, 3) := dk_182 0 76 (dk_at dksJ4_listIterator_0 2 rfl rfl)
theorem dJ4_listIterator_5 : decode cJ4_listIterator 5 = .ok (.new 150, 3) := dk_187 0 150 (dk_at dksJ4_listIterator_0 5 rfl rfl)
theorem dJ4_listIterator_8 : decode cJ4_listIterator 8 = .ok (.dup, 1) := dk_89 (dk_at dksJ4_listIterator_0 8 rfl rfl)
theorem dJ4_listIterator_9 : decode cJ4_listIterator 9 = .ok (.aload_n 0, 1) := dk_42 (dk_at dksJ4_listIterator_0 9 rfl rfl)
theorem dJ4_listIterator_10 : decode cJ4_listIterator 10 = .ok (.iload_n 1, 1) := dk_27 (dk_at dksJ4_listIterator_0 10 rfl rfl)
theorem dJ4_listIterator_11 : decode cJ4_listIterator 11 = .ok (.invokespecial 152, 3) := dk_183 0 152 (dk_at dksJ4_listIterator_0 11 rfl rfl)
theorem dJ4_listIterator_14 : decode cJ4_listIterator 14 = .ok (.areturn, 1) := dk_176 (dk_at dksJ4_listIterator_0 14 rfl rfl)
abbrev cJ4_checkPositionIndex : ByteArray := prog_71_method_30_code
def yJ4_checkPositionIndex : MethodName := ⟨RJ4, "checkPositionIndex", "(I)V"⟩
def dkwJ4_checkPositionIndex_0 : List UInt8 := [42, 27, 182, 0, 128, 154, 0, 16, 187, 0, 119, 89, 42, 27, 182, 0, 121, 183, 0, 125, 191, 177]
abbrev dktJ4_checkPositionIndex_0 : List UInt8 := dkwJ4_checkPositionIndex_0 ++ []
theorem dksJ4_checkPositionIndex_0 : cJ4_checkPositionIndex.data.toList.drop 0 = dktJ4_checkPositionIndex_0 := by decide +kernel
theorem dJ4_checkPositionIndex_0 : decode cJ4_checkPositionIndex 0 = .ok (.aload_n 0, 1) := dk_42 (dk_at dksJ4_checkPositionIndex_0 0 rfl rfl)
theorem dJ4_checkPositionIndex_1 : decode cJ4_checkPositionIndex 1 = .ok (.iload_n 1, 1) := dk_27 (dk_at dksJ4_checkPositionIndex_0 1 rfl rfl)
theorem dJ4_checkPositionIndex_2 : decode cJ4_checkPositionIndex 2 = .ok (.invokevirtual 128, 3) := dk_182 0 128 (dk_at dksJ4_checkPositionIndex_0 2 rfl rfl)
theorem dJ4_checkPositionIndex_5 : decode cJ4_checkPositionIndex 5 = .ok (.ifCond .ne 16, 3) := dk_154 0 16 (dk_at dksJ4_checkPositionIndex_0 5 rfl rfl)
theorem dJ4_checkPositionIndex_8 : decode cJ4_checkPositionIndex 8 = .ok (.new 119, 3) := dk_187 0 119 (dk_at dksJ4_checkPositionIndex_0 8 rfl rfl)
theorem dJ4_checkPositionIndex_11 : decode cJ4_checkPositionIndex 11 = .ok (.dup, 1) := dk_89 (dk_at dksJ4_checkPositionIndex_0 11 rfl rfl)
theorem dJ4_checkPositionIndex_12 : decode cJ4_checkPositionIndex 12 = .ok (.aload_n 0, 1) := dk_42 (dk_at dksJ4_checkPositionIndex_0 12 rfl rfl)
theorem dJ4_checkPositionIndex_13 : decode cJ4_checkPositionIndex 13 = .ok (.iload_n 1, 1) := dk_27 (dk_at dksJ4_checkPositionIndex_0 13 rfl rfl)
theorem dJ4_checkPositionIndex_14 : decode cJ4_checkPositionIndex 14 = .ok (.invokevirtual 121, 3) := dk_182 0 121 (dk_at dksJ4_checkPositionIndex_0 14 rfl rfl)
theorem dJ4_checkPositionIndex_17 : decode cJ4_checkPositionIndex 17 = .ok (.invokespecial 125, 3) := dk_183 0 125 (dk_at dksJ4_checkPositionIndex_0 17 rfl rfl)
theorem dJ4_checkPositionIndex_20 : decode cJ4_checkPositionIndex 20 = .ok (.athrow, 1) := dk_191 (dk_at dksJ4_checkPositionIndex_0 20 rfl rfl)
theorem dJ4_checkPositionIndex_21 : decode cJ4_checkPositionIndex 21 = .ok (.return_, 1) := dk_177 (dk_at dksJ4_checkPositionIndex_0 21 rfl rfl)
abbrev cJ4_isPositionIndex : ByteArray := prog_71_method_27_code
def yJ4_isPositionIndex : MethodName := ⟨RJ4, "isPositionIndex", "(I)Z"⟩
def dkwJ4_isPositionIndex_0 : List UInt8 := [27, 155, 0, 15, 27, 42, 180, 0, 7, 163, 0, 7, 4, 167, 0, 4, 3, 172]
abbrev dktJ4_isPositionIndex_0 : List UInt8 := dkwJ4_isPositionIndex_0 ++ []
theorem dksJ4_isPositionIndex_0 : cJ4_isPositionIndex.data.toList.drop 0 = dktJ4_isPositionIndex_0 := by decide +kernel
theorem dJ4_isPositionIndex_0 : decode cJ4_isPositionIndex 0 = .ok (.iload_n 1, 1) := dk_27 (dk_at dksJ4_isPositionIndex_0 0 rfl rfl)
theorem dJ4_isPositionIndex_1 : decode cJ4_isPositionIndex 1 = .ok (.ifCond .lt 15, 3) := dk_155 0 15 (dk_at dksJ4_isPositionIndex_0 1 rfl rfl)
theorem dJ4_isPositionIndex_4 : decode cJ4_isPositionIndex 4 = .ok (.iload_n 1, 1) := dk_27 (dk_at dksJ4_isPositionIndex_0 4 rfl rfl)
theorem dJ4_isPositionIndex_5 : decode cJ4_isPositionIndex 5 = .ok (.aload_n 0, 1) := dk_42 (dk_at dksJ4_isPositionIndex_0 5 rfl rfl)
theorem dJ4_isPositionIndex_6 : decode cJ4_isPositionIndex 6 = .ok (.getfield 7, 3) := dk_180 0 7 (dk_at dksJ4_isPositionIndex_0 6 rfl rfl)
theorem dJ4_isPositionIndex_9 : decode cJ4_isPositionIndex 9 = .ok (.if_icmp .gt 7, 3) := dk_163 0 7 (dk_at dksJ4_isPositionIndex_0 9 rfl rfl)
theorem dJ4_isPositionIndex_12 : decode cJ4_isPositionIndex 12 = .ok (.iconst 1, 1) := dk_4 (dk_at dksJ4_isPositionIndex_0 12 rfl rfl)
theorem dJ4_isPositionIndex_13 : decode cJ4_isPositionIndex 13 = .ok (.goto 4, 3) := dk_167 0 4 (dk_at dksJ4_isPositionIndex_0 13 rfl rfl)
theorem dJ4_isPositionIndex_16 : decode cJ4_isPositionIndex 16 = .ok (.iconst 0, 1) := dk_3 (dk_at dksJ4_isPositionIndex_0 16 rfl rfl)
theorem dJ4_isPositionIndex_17 : decode cJ4_isPositionIndex 17 = .ok (.ireturn, 1) := dk_172 (dk_at dksJ4_isPositionIndex_0 17 rfl rfl)
abbrev cJ4_clear : ByteArray := prog_71_method_21_code
def yJ4_clear : MethodName := ⟨RJ4, "clear", "()V"⟩
def dkwJ4_clear_2 : List UInt8 := [181, 0, 7, 42, 89, 180, 0, 33, 4, 96, 181, 0, 33, 177]
abbrev dktJ4_clear_2 : List UInt8 := dkwJ4_clear_2 ++ []
def dkwJ4_clear_1 : List UInt8 := [43, 1, 181, 0, 30, 44, 76, 167, 255, 230, 42, 42, 1, 90, 181, 0, 27, 181, 0, 18, 42, 3]
abbrev dktJ4_clear_1 : List UInt8 := dkwJ4_clear_1 ++ dktJ4_clear_2
def dkwJ4_clear_0 : List UInt8 := [42, 180, 0, 18, 76, 43, 198, 0, 28, 43, 180, 0, 36, 77, 43, 1, 181, 0, 39, 43, 1, 181, 0, 36]
abbrev dktJ4_clear_0 : List UInt8 := dkwJ4_clear_0 ++ dktJ4_clear_1
theorem dksJ4_clear_0 : cJ4_clear.data.toList.drop 0 = dktJ4_clear_0 := by decide +kernel
theorem dksJ4_clear_1 : cJ4_clear.data.toList.drop 24 = dktJ4_clear_1 := dk_seg dksJ4_clear_0 24 rfl rfl
theorem dksJ4_clear_2 : cJ4_clear.data.toList.drop 46 = dktJ4_clear_2 := dk_seg dksJ4_clear_1 22 rfl rfl
theorem dJ4_clear_0 : decode cJ4_clear 0 = .ok (.aload_n 0, 1) := dk_42 (dk_at dksJ4_clear_0 0 rfl rfl)
theorem dJ4_clear_1 : decode cJ4_clear 1 = .ok (.getfield 18, 3) := dk_180 0 18 (dk_at dksJ4_clear_0 1 rfl rfl)
theorem dJ4_clear_4 : decode cJ4_clear 4 = .ok (.astore_n 1, 1) := dk_76 (dk_at dksJ4_clear_0 4 rfl rfl)
theorem dJ4_clear_5 : decode cJ4_clear 5 = .ok (.aload_n 1, 1) := dk_43 (dk_at dksJ4_clear_0 5 rfl rfl)
theorem dJ4_clear_6 : decode cJ4_clear 6 = .ok (.ifnull 28, 3) := dk_198 0 28 (dk_at dksJ4_clear_0 6 rfl rfl)
theorem dJ4_clear_9 : decode cJ4_clear 9 = .ok (.aload_n 1, 1) := dk_43 (dk_at dksJ4_clear_0 9 rfl rfl)
theorem dJ4_clear_10 : decode cJ4_clear 10 = .ok (.getfield 36, 3) := dk_180 0 36 (dk_at dksJ4_clear_0 10 rfl rfl)
theorem dJ4_clear_13 : decode cJ4_clear 13 = .ok (.astore_n 2, 1) := dk_77 (dk_at dksJ4_clear_0 13 rfl rfl)
theorem dJ4_clear_14 : decode cJ4_clear 14 = .ok (.aload_n 1, 1) := dk_43 (dk_at dksJ4_clear_0 14 rfl rfl)
theorem dJ4_clear_15 : decode cJ4_clear 15 = .ok (.aconst_null, 1) := dk_1 (dk_at dksJ4_clear_0 15 rfl rfl)
theorem dJ4_clear_16 : decode cJ4_clear 16 = .ok (.putfield 39, 3) := dk_181 0 39 (dk_at dksJ4_clear_0 16 rfl rfl)
theorem dJ4_clear_19 : decode cJ4_clear 19 = .ok (.aload_n 1, 1) := dk_43 (dk_at dksJ4_clear_0 19 rfl rfl)
theorem dJ4_clear_20 : decode cJ4_clear 20 = .ok (.aconst_null, 1) := dk_1 (dk_at dksJ4_clear_0 20 rfl rfl)
theorem dJ4_clear_21 : decode cJ4_clear 21 = .ok (.putfield 36, 3) := dk_181 0 36 (dk_at dksJ4_clear_0 21 rfl rfl)
theorem dJ4_clear_24 : decode cJ4_clear 24 = .ok (.aload_n 1, 1) := dk_43 (dk_at dksJ4_clear_1 0 rfl rfl)
theorem dJ4_clear_25 : decode cJ4_clear 25 = .ok (.aconst_null, 1) := dk_1 (dk_at dksJ4_clear_1 1 rfl rfl)
theorem dJ4_clear_26 : decode cJ4_clear 26 = .ok (.putfield 30, 3) := dk_181 0 30 (dk_at dksJ4_clear_1 2 rfl rfl)
theorem dJ4_clear_29 : decode cJ4_clear 29 = .ok (.aload_n 2, 1) := dk_44 (dk_at dksJ4_clear_1 5 rfl rfl)
theorem dJ4_clear_30 : decode cJ4_clear 30 = .ok (.astore_n 1, 1) := dk_76 (dk_at dksJ4_clear_1 6 rfl rfl)
theorem dJ4_clear_31 : decode cJ4_clear 31 = .ok (.goto (-26), 3) := dk_167 255 230 (dk_at dksJ4_clear_1 7 rfl rfl)
theorem dJ4_clear_34 : decode cJ4_clear 34 = .ok (.aload_n 0, 1) := dk_42 (dk_at dksJ4_clear_1 10 rfl rfl)
theorem dJ4_clear_35 : decode cJ4_clear 35 = .ok (.aload_n 0, 1) := dk_42 (dk_at dksJ4_clear_1 11 rfl rfl)
theorem dJ4_clear_36 : decode cJ4_clear 36 = .ok (.aconst_null, 1) := dk_1 (dk_at dksJ4_clear_1 12 rfl rfl)
theorem dJ4_clear_37 : decode cJ4_clear 37 = .ok (.dup_x1, 1) := dk_90 (dk_at dksJ4_clear_1 13 rfl rfl)
theorem dJ4_clear_38 : decode cJ4_clear 38 = .ok (.putfield 27, 3) := dk_181 0 27 (dk_at dksJ4_clear_1 14 rfl rfl)
theorem dJ4_clear_41 : decode cJ4_clear 41 = .ok (.putfield 18, 3) := dk_181 0 18 (dk_at dksJ4_clear_1 17 rfl rfl)
theorem dJ4_clear_44 : decode cJ4_clear 44 = .ok (.aload_n 0, 1) := dk_42 (dk_at dksJ4_clear_1 20 rfl rfl)
theorem dJ4_clear_45 : decode cJ4_clear 45 = .ok (.iconst 0, 1) := dk_3 (dk_at dksJ4_clear_1 21 rfl rfl)
theorem dJ4_clear_46 : decode cJ4_clear 46 = .ok (.putfield 7, 3) := dk_181 0 7 (dk_at dksJ4_clear_2 0 rfl rfl)
theorem dJ4_clear_49 : decode cJ4_clear 49 = .ok (.aload_n 0, 1) := dk_42 (dk_at dksJ4_clear_2 3 rfl rfl)
theorem dJ4_clear_50 : decode cJ4_clear 50 = .ok (.dup, 1) := dk_89 (dk_at dksJ4_clear_2 4 rfl rfl)
theorem dJ4_clear_51 : decode cJ4_clear 51 = .ok (.getfield 33, 3) := dk_180 0 33 (dk_at dksJ4_clear_2 5 rfl rfl)
theorem dJ4_clear_54 : decode cJ4_clear 54 = .ok (.iconst 1, 1) := dk_4 (dk_at dksJ4_clear_2 8 rfl rfl)
theorem dJ4_clear_55 : decode cJ4_clear 55 = .ok (.iadd, 1) := dk_96 (dk_at dksJ4_clear_2 9 rfl rfl)
theorem dJ4_clear_56 : decode cJ4_clear 56 = .ok (.putfield 33, 3) := dk_181 0 33 (dk_at dksJ4_clear_2 10 rfl rfl)
theorem dJ4_clear_59 : decode cJ4_clear 59 = .ok (.return_, 1) := dk_177 (dk_at dksJ4_clear_2 13 rfl rfl)
abbrev cJ4_toArray : ByteArray := prog_71_method_53_code
def yJ4_toArray : MethodName := ⟨RJ4, "toArray", "()[Ljava/lang/Object;"⟩
def dkwJ4_toArray_1 : List UInt8 := [45, 180, 0, 39, 83, 45, 180, 0, 36, 78, 167, 255, 237, 43, 176]
abbrev dktJ4_toArray_1 : List UInt8 := dkwJ4_toArray_1 ++ []
def dkwJ4_toArray_0 : List UInt8 := [42, 180, 0, 7, 189, 0, 68, 76, 3, 61, 42, 180, 0, 18, 78, 45, 198, 0, 21, 43, 28, 132, 2, 1]
abbrev dktJ4_toArray_0 : List UInt8 := dkwJ4_toArray_0 ++ dktJ4_toArray_1
theorem dksJ4_toArray_0 : cJ4_toArray.data.toList.drop 0 = dktJ4_toArray_0 := by decide +kernel
theorem dksJ4_toArray_1 : cJ4_toArray.data.toList.drop 24 = dktJ4_toArray_1 := dk_seg dksJ4_toArray_0 24 rfl rfl
theorem dJ4_toArray_0 : decode cJ4_toArray 0 = .ok (.aload_n 0, 1) := dk_42 (dk_at dksJ4_toArray_0 0 rfl rfl)
theorem dJ4_toArray_1 : decode cJ4_toArray 1 = .ok (.getfield 7, 3) := dk_180 0 7 (dk_at dksJ4_toArray_0 1 rfl rfl)
theorem dJ4_toArray_4 : decode cJ4_toArray 4 = .ok (.anewarray 68, 3) := dk_189 0 68 (dk_at dksJ4_toArray_0 4 rfl rfl)
theorem dJ4_toArray_7 : decode cJ4_toArray 7 = .ok (.astore_n 1, 1) := dk_76 (dk_at dksJ4_toArray_0 7 rfl rfl)
theorem dJ4_toArray_8 : decode cJ4_toArray 8 = .ok (.iconst 0, 1) := dk_3 (dk_at dksJ4_toArray_0 8 rfl rfl)
theorem dJ4_toArray_9 : decode cJ4_toArray 9 = .ok (.istore_n 2, 1) := dk_61 (dk_at dksJ4_toArray_0 9 rfl rfl)
theorem dJ4_toArray_10 : decode cJ4_toArray 10 = .ok (.aload_n 0, 1) := dk_42 (dk_at dksJ4_toArray_0 10 rfl rfl)
theorem dJ4_toArray_11 : decode cJ4_toArray 11 = .ok (.getfield 18, 3) := dk_180 0 18 (dk_at dksJ4_toArray_0 11 rfl rfl)
theorem dJ4_toArray_14 : decode cJ4_toArray 14 = .ok (.astore_n 3, 1) := dk_78 (dk_at dksJ4_toArray_0 14 rfl rfl)
theorem dJ4_toArray_15 : decode cJ4_toArray 15 = .ok (.aload_n 3, 1) := dk_45 (dk_at dksJ4_toArray_0 15 rfl rfl)
theorem dJ4_toArray_16 : decode cJ4_toArray 16 = .ok (.ifnull 21, 3) := dk_198 0 21 (dk_at dksJ4_toArray_0 16 rfl rfl)
theorem dJ4_toArray_19 : decode cJ4_toArray 19 = .ok (.aload_n 1, 1) := dk_43 (dk_at dksJ4_toArray_0 19 rfl rfl)
theorem dJ4_toArray_20 : decode cJ4_toArray 20 = .ok (.iload_n 2, 1) := dk_28 (dk_at dksJ4_toArray_0 20 rfl rfl)
theorem dJ4_toArray_21 : decode cJ4_toArray 21 = .ok (.iinc 2 1, 3) := dk_132 2 1 (dk_at dksJ4_toArray_0 21 rfl rfl)
theorem dJ4_toArray_24 : decode cJ4_toArray 24 = .ok (.aload_n 3, 1) := dk_45 (dk_at dksJ4_toArray_1 0 rfl rfl)
theorem dJ4_toArray_25 : decode cJ4_toArray 25 = .ok (.getfield 39, 3) := dk_180 0 39 (dk_at dksJ4_toArray_1 1 rfl rfl)
theorem dJ4_toArray_28 : decode cJ4_toArray 28 = .ok (.aastore, 1) := dk_83 (dk_at dksJ4_toArray_1 4 rfl rfl)
theorem dJ4_toArray_29 : decode cJ4_toArray 29 = .ok (.aload_n 3, 1) := dk_45 (dk_at dksJ4_toArray_1 5 rfl rfl)
theorem dJ4_toArray_30 : decode cJ4_toArray 30 = .ok (.getfield 36, 3) := dk_180 0 36 (dk_at dksJ4_toArray_1 6 rfl rfl)
theorem dJ4_toArray_33 : decode cJ4_toArray 33 = .ok (.astore_n 3, 1) := dk_78 (dk_at dksJ4_toArray_1 9 rfl rfl)
theorem dJ4_toArray_34 : decode cJ4_toArray 34 = .ok (.goto (-19), 3) := dk_167 255 237 (dk_at dksJ4_toArray_1 10 rfl rfl)
theorem dJ4_toArray_37 : decode cJ4_toArray 37 = .ok (.aload_n 1, 1) := dk_43 (dk_at dksJ4_toArray_1 13 rfl rfl)
theorem dJ4_toArray_38 : decode cJ4_toArray 38 = .ok (.areturn, 1) := dk_176 (dk_at dksJ4_toArray_1 14 rfl rfl)
abbrev cJ4_addAll : ByteArray := prog_71_method_19_code
def yJ4_addAll : MethodName := ⟨RJ4, "addAll", "(Ljava/util/Collection;)Z"⟩
def dkwJ4_addAll_0 : List UInt8 := [42, 42, 180, 0, 7, 43, 182, 0, 73, 172]
abbrev dktJ4_addAll_0 : List UInt8 := dkwJ4_addAll_0 ++ []
theorem dksJ4_addAll_0 : cJ4_addAll.data.toList.drop 0 = dktJ4_addAll_0 := by decide +kernel
theorem dJ4_addAll_0 : decode cJ4_addAll 0 = .ok (.aload_n 0, 1) := dk_42 (dk_at dksJ4_addAll_0 0 rfl rfl)
theorem dJ4_addAll_1 : decode cJ4_addAll 1 = .ok (.aload_n 0, 1) := dk_42 (dk_at dksJ4_addAll_0 1 rfl rfl)
theorem dJ4_addAll_2 : decode cJ4_addAll 2 = .ok (.getfield 7, 3) := dk_180 0 7 (dk_at dksJ4_addAll_0 2 rfl rfl)
theorem dJ4_addAll_5 : decode cJ4_addAll 5 = .ok (.aload_n 1, 1) := dk_43 (dk_at dksJ4_addAll_0 5 rfl rfl)
theorem dJ4_addAll_6 : decode cJ4_addAll 6 = .ok (.invokevirtual 73, 3) := dk_182 0 73 (dk_at dksJ4_addAll_0 6 rfl rfl)
theorem dJ4_addAll_9 : decode cJ4_addAll 9 = .ok (.ireturn, 1) := dk_172 (dk_at dksJ4_addAll_0 9 rfl rfl)
abbrev cJ4_addAll_2 : ByteArray := prog_71_method_20_code
def yJ4_addAll_2 : MethodName := ⟨RJ4, "addAll", "(ILjava/util/Collection;)Z"⟩
def dkwJ4_addAll_2_7 : List UInt8 := [96, 181, 0, 7, 42, 89, 180, 0, 33, 4, 96, 181, 0, 33, 4, 172]
abbrev dktJ4_addAll_2_7 : List UInt8 := dkwJ4_addAll_2_7 ++ []
def dkwJ4_addAll_2_6 : List UInt8 := [167, 0, 17, 25, 5, 25, 6, 181, 0, 36, 25, 6, 25, 5, 181, 0, 30, 42, 89, 180, 0, 7, 21, 4]
abbrev dktJ4_addAll_2_6 : List UInt8 := dkwJ4_addAll_2_6 ++ dktJ4_addAll_2_7
def dkwJ4_addAll_2_5 : List UInt8 := [181, 0, 36, 25, 12, 58, 5, 132, 9, 1, 167, 255, 196, 25, 6, 199, 0, 12, 42, 25, 5, 181, 0, 27]
abbrev dktJ4_addAll_2_5 : List UInt8 := dkwJ4_addAll_2_5 ++ dktJ4_addAll_2_6
def dkwJ4_addAll_2_4 : List UInt8 := [183, 0, 24, 58, 12, 25, 5, 199, 0, 12, 42, 25, 12, 181, 0, 18, 167, 0, 10, 25, 5, 25, 12]
abbrev dktJ4_addAll_2_4 : List UInt8 := dkwJ4_addAll_2_4 ++ dktJ4_addAll_2_5
def dkwJ4_addAll_2_3 : List UInt8 := [162, 0, 59, 25, 7, 21, 9, 50, 58, 10, 25, 10, 58, 11, 187, 0, 22, 89, 25, 5, 25, 11, 1]
abbrev dktJ4_addAll_2_3 : List UInt8 := dkwJ4_addAll_2_3 ++ dktJ4_addAll_2_4
def dkwJ4_addAll_2_2 : List UInt8 := [58, 6, 25, 6, 180, 0, 30, 58, 5, 45, 58, 7, 25, 7, 190, 54, 8, 3, 54, 9, 21, 9, 21, 8]
abbrev dktJ4_addAll_2_2 : List UInt8 := dkwJ4_addAll_2_2 ++ dktJ4_addAll_2_3
def dkwJ4_addAll_2_1 : List UInt8 := [42, 180, 0, 7, 160, 0, 15, 1, 58, 6, 42, 180, 0, 27, 58, 5, 167, 0, 17, 42, 27, 182, 0, 86]
abbrev dktJ4_addAll_2_1 : List UInt8 := dkwJ4_addAll_2_1 ++ dktJ4_addAll_2_2
def dkwJ4_addAll_2_0 : List UInt8 := [42, 27, 182, 0, 76, 44, 185, 0, 80, 1, 0, 78, 45, 190, 54, 4, 21, 4, 154, 0, 5, 3, 172, 27]
abbrev dktJ4_addAll_2_0 : List UInt8 := dkwJ4_addAll_2_0 ++ dktJ4_addAll_2_1
theorem dksJ4_addAll_2_0 : cJ4_addAll_2.data.toList.drop 0 = dktJ4_addAll_2_0 := by decide +kernel
theorem dksJ4_addAll_2_1 : cJ4_addAll_2.data.toList.drop 24 = dktJ4_addAll_2_1 := dk_seg dksJ4_addAll_2_0 24 rfl rfl
theorem dksJ4_addAll_2_2 : cJ4_addAll_2.data.toList.drop 48 = dktJ4_addAll_2_2 := dk_seg dksJ4_addAll_2_1 24 rfl rfl
theorem dksJ4_addAll_2_3 : cJ4_addAll_2.data.toList.drop 72 = dktJ4_addAll_2_3 := dk_seg dksJ4_addAll_2_2 24 rfl rfl
theorem dksJ4_addAll_2_4 : cJ4_addAll_2.data.toList.drop 95 = dktJ4_addAll_2_4 := dk_seg dksJ4_addAll_2_3 23 rfl rfl
theorem dksJ4_addAll_2_5 : cJ4_addAll_2.data.toList.drop 118 = dktJ4_addAll_2_5 := dk_seg dksJ4_addAll_2_4 23 rfl rfl
theorem dksJ4_addAll_2_6 : cJ4_addAll_2.data.toList.drop 142 = dktJ4_addAll_2_6 := dk_seg dksJ4_addAll_2_5 24 rfl rfl
theorem dksJ4_addAll_2_7 : cJ4_addAll_2.data.toList.drop 166 = dktJ4_addAll_2_7 := dk_seg dksJ4_addAll_2_6 24 rfl rfl
theorem dJ4_addAll_2_0 : decode cJ4_addAll_2 0 = .ok (.aload_n 0, 1) := dk_42 (dk_at dksJ4_addAll_2_0 0 rfl rfl)
theorem dJ4_addAll_2_1 : decode cJ4_addAll_2 1 = .ok (.iload_n 1, 1) := dk_27 (dk_at dksJ4_addAll_2_0 1 rfl rfl)
theorem dJ4_addAll_2_2 : decode cJ4_addAll_2 2 = .ok (.invokevirtual 76, 3) := dk_182 0 76 (dk_at dksJ4_addAll_2_0 2 rfl rfl)
theorem dJ4_addAll_2_5 : decode cJ4_addAll_2 5 = .ok (.aload_n 2, 1) := dk_44 (dk_at dksJ4_addAll_2_0 5 rfl rfl)
theorem dJ4_addAll_2_6 : decode cJ4_addAll_2 6 = .ok (.invokeinterface 80 1, 5) := by decide +kernel
theorem dJ4_addAll_2_11 : decode cJ4_addAll_2 11 = .ok (.astore_n 3, 1) := dk_78 (dk_at dksJ4_addAll_2_0 11 rfl rfl)
theorem dJ4_addAll_2_12 : decode cJ4_addAll_2 12 = .ok (.aload_n 3, 1) := dk_45 (dk_at dksJ4_addAll_2_0 12 rfl rfl)
theorem dJ4_addAll_2_13 : decode cJ4_addAll_2 13 = .ok (.arraylength, 1) := dk_190 (dk_at dksJ4_addAll_2_0 13 rfl rfl)
theorem dJ4_addAll_2_14 : decode cJ4_addAll_2 14 = .ok (.istore 4, 2) := dk_54 4 (dk_at dksJ4_addAll_2_0 14 rfl rfl)
theorem dJ4_addAll_2_16 : decode cJ4_addAll_2 16 = .ok (.iload 4, 2) := dk_21 4 (dk_at dksJ4_addAll_2_0 16 rfl rfl)
theorem dJ4_addAll_2_18 : decode cJ4_addAll_2 18 = .ok (.ifCond .ne 5, 3) := dk_154 0 5 (dk_at dksJ4_addAll_2_0 18 rfl rfl)
theorem dJ4_addAll_2_21 : decode cJ4_addAll_2 21 = .ok (.iconst 0, 1) := dk_3 (dk_at dksJ4_addAll_2_0 21 rfl rfl)
theorem dJ4_addAll_2_22 : decode cJ4_addAll_2 22 = .ok (.ireturn, 1) := dk_172 (dk_at dksJ4_addAll_2_0 22 rfl rfl)
theorem dJ4_addAll_2_23 : decode cJ4_addAll_2 23 = .ok (.iload_n 1, 1) := dk_27 (dk_at dksJ4_addAll_2_0 23 rfl rfl)
theorem dJ4_addAll_2_24 : decode cJ4_addAll_2 24 = .ok (.aload_n 0, 1) := dk_42 (dk_at dksJ4_addAll_2_1 0 rfl rfl)
theorem dJ4_addAll_2_25 : decode cJ4_addAll_2 25 = .ok (.getfield 7, 3) := dk_180 0 7 (dk_at dksJ4_addAll_2_1 1 rfl rfl)
theorem dJ4_addAll_2_28 : decode cJ4_addAll_2 28 = .ok (.if_icmp .ne 15, 3) := dk_160 0 15 (dk_at dksJ4_addAll_2_1 4 rfl rfl)
theorem dJ4_addAll_2_31 : decode cJ4_addAll_2 31 = .ok (.aconst_null, 1) := dk_1 (dk_at dksJ4_addAll_2_1 7 rfl rfl)
theorem dJ4_addAll_2_32 : decode cJ4_addAll_2 32 = .ok (.astore 6, 2) := dk_58 6 (dk_at dksJ4_addAll_2_1 8 rfl rfl)
theorem dJ4_addAll_2_34 : decode cJ4_addAll_2 34 = .ok (.aload_n 0, 1) := dk_42 (dk_at dksJ4_addAll_2_1 10 rfl rfl)
theorem dJ4_addAll_2_35 : decode cJ4_addAll_2 35 = .ok (.getfield 27, 3) := dk_180 0 27 (dk_at dksJ4_addAll_2_1 11 rfl rfl)
theorem dJ4_addAll_2_38 : decode cJ4_addAll_2 38 = .ok (.astore 5, 2) := dk_58 5 (dk_at dksJ4_addAll_2_1 14 rfl rfl)
theorem dJ4_addAll_2_40 : decode cJ4_addAll_2 40 = .ok (.goto 17, 3) := dk_167 0 17 (dk_at dksJ4_addAll_2_1 16 rfl rfl)
theorem dJ4_addAll_2_43 : decode cJ4_addAll_2 43 = .ok (.aload_n 0, 1) := dk_42 (dk_at dksJ4_addAll_2_1 19 rfl rfl)
theorem dJ4_addAll_2_44 : decode cJ4_addAll_2 44 = .ok (.iload_n 1, 1) := dk_27 (dk_at dksJ4_addAll_2_1 20 rfl rfl)
theorem dJ4_addAll_2_45 : decode cJ4_addAll_2 45 = .ok (.invokevirtual 86, 3) := dk_182 0 86 (dk_at dksJ4_addAll_2_1 21 rfl rfl)
theorem dJ4_addAll_2_48 : decode cJ4_addAll_2 48 = .ok (.astore 6, 2) := dk_58 6 (dk_at dksJ4_addAll_2_2 0 rfl rfl)
theorem dJ4_addAll_2_50 : decode cJ4_addAll_2 50 = .ok (.aload 6, 2) := dk_25 6 (dk_at dksJ4_addAll_2_2 2 rfl rfl)
theorem dJ4_addAll_2_52 : decode cJ4_addAll_2 52 = .ok (.getfield 30, 3) := dk_180 0 30 (dk_at dksJ4_addAll_2_2 4 rfl rfl)
theorem dJ4_addAll_2_55 : decode cJ4_addAll_2 55 = .ok (.astore 5, 2) := dk_58 5 (dk_at dksJ4_addAll_2_2 7 rfl rfl)
theorem dJ4_addAll_2_57 : decode cJ4_addAll_2 57 = .ok (.aload_n 3, 1) := dk_45 (dk_at dksJ4_addAll_2_2 9 rfl rfl)
theorem dJ4_addAll_2_58 : decode cJ4_addAll_2 58 = .ok (.astore 7, 2) := dk_58 7 (dk_at dksJ4_addAll_2_2 10 rfl rfl)
theorem dJ4_addAll_2_60 : decode cJ4_addAll_2 60 = .ok (.aload 7, 2) := dk_25 7 (dk_at dksJ4_addAll_2_2 12 rfl rfl)
theorem dJ4_addAll_2_62 : decode cJ4_addAll_2 62 = .ok (.arraylength, 1) := dk_190 (dk_at dksJ4_addAll_2_2 14 rfl rfl)
theorem dJ4_addAll_2_63 : decode cJ4_addAll_2 63 = .ok (.istore 8, 2) := dk_54 8 (dk_at dksJ4_addAll_2_2 15 rfl rfl)
theorem dJ4_addAll_2_65 : decode cJ4_addAll_2 65 = .ok (.iconst 0, 1) := dk_3 (dk_at dksJ4_addAll_2_2 17 rfl rfl)
theorem dJ4_addAll_2_66 : decode cJ4_addAll_2 66 = .ok (.istore 9, 2) := dk_54 9 (dk_at dksJ4_addAll_2_2 18 rfl rfl)
theorem dJ4_addAll_2_68 : decode cJ4_addAll_2 68 = .ok (.iload 9, 2) := dk_21 9 (dk_at dksJ4_addAll_2_2 20 rfl rfl)
theorem dJ4_addAll_2_70 : decode cJ4_addAll_2 70 = .ok (.iload 8, 2) := dk_21 8 (dk_at dksJ4_addAll_2_2 22 rfl rfl)
theorem dJ4_addAll_2_72 : decode cJ4_addAll_2 72 = .ok (.if_icmp .ge 59, 3) := dk_162 0 59 (dk_at dksJ4_addAll_2_3 0 rfl rfl)
theorem dJ4_addAll_2_75 : decode cJ4_addAll_2 75 = .ok (.aload 7, 2) := dk_25 7 (dk_at dksJ4_addAll_2_3 3 rfl rfl)
theorem dJ4_addAll_2_77 : decode cJ4_addAll_2 77 = .ok (.iload 9, 2) := dk_21 9 (dk_at dksJ4_addAll_2_3 5 rfl rfl)
theorem dJ4_addAll_2_79 : decode cJ4_addAll_2 79 = .ok (.aaload, 1) := dk_50 (dk_at dksJ4_addAll_2_3 7 rfl rfl)
theorem dJ4_addAll_2_80 : decode cJ4_addAll_2 80 = .ok (.astore 10, 2) := dk_58 10 (dk_at dksJ4_addAll_2_3 8 rfl rfl)
theorem dJ4_addAll_2_82 : decode cJ4_addAll_2 82 = .ok (.aload 10, 2) := dk_25 10 (dk_at dksJ4_addAll_2_3 10 rfl rfl)
theorem dJ4_addAll_2_84 : decode cJ4_addAll_2 84 = .ok (.astore 11, 2) := dk_58 11 (dk_at dksJ4_addAll_2_3 12 rfl rfl)
theorem dJ4_addAll_2_86 : decode cJ4_addAll_2 86 = .ok (.new 22, 3) := dk_187 0 22 (dk_at dksJ4_addAll_2_3 14 rfl rfl)
theorem dJ4_addAll_2_89 : decode cJ4_addAll_2 89 = .ok (.dup, 1) := dk_89 (dk_at dksJ4_addAll_2_3 17 rfl rfl)
theorem dJ4_addAll_2_90 : decode cJ4_addAll_2 90 = .ok (.aload 5, 2) := dk_25 5 (dk_at dksJ4_addAll_2_3 18 rfl rfl)
theorem dJ4_addAll_2_92 : decode cJ4_addAll_2 92 = .ok (.aload 11, 2) := dk_25 11 (dk_at dksJ4_addAll_2_3 20 rfl rfl)
theorem dJ4_addAll_2_94 : decode cJ4_addAll_2 94 = .ok (.aconst_null, 1) := dk_1 (dk_at dksJ4_addAll_2_3 22 rfl rfl)
theorem dJ4_addAll_2_95 : decode cJ4_addAll_2 95 = .ok (.invokespecial 24, 3) := dk_183 0 24 (dk_at dksJ4_addAll_2_4 0 rfl rfl)
theorem dJ4_addAll_2_98 : decode cJ4_addAll_2 98 = .ok (.astore 12, 2) := dk_58 12 (dk_at dksJ4_addAll_2_4 3 rfl rfl)
theorem dJ4_addAll_2_100 : decode cJ4_addAll_2 100 = .ok (.aload 5, 2) := dk_25 5 (dk_at dksJ4_addAll_2_4 5 rfl rfl)
theorem dJ4_addAll_2_102 : decode cJ4_addAll_2 102 = .ok (.ifnonnull 12, 3) := dk_199 0 12 (dk_at dksJ4_addAll_2_4 7 rfl rfl)
theorem dJ4_addAll_2_105 : decode cJ4_addAll_2 105 = .ok (.aload_n 0, 1) := dk_42 (dk_at dksJ4_addAll_2_4 10 rfl rfl)
theorem dJ4_addAll_2_106 : decode cJ4_addAll_2 106 = .ok (.aload 12, 2) := dk_25 12 (dk_at dksJ4_addAll_2_4 11 rfl rfl)
theorem dJ4_addAll_2_108 : decode cJ4_addAll_2 108 = .ok (.putfield 18, 3) := dk_181 0 18 (dk_at dksJ4_addAll_2_4 13 rfl rfl)
theorem dJ4_addAll_2_111 : decode cJ4_addAll_2 111 = .ok (.goto 10, 3) := dk_167 0 10 (dk_at dksJ4_addAll_2_4 16 rfl rfl)
theorem dJ4_addAll_2_114 : decode cJ4_addAll_2 114 = .ok (.aload 5, 2) := dk_25 5 (dk_at dksJ4_addAll_2_4 19 rfl rfl)
theorem dJ4_addAll_2_116 : decode cJ4_addAll_2 116 = .ok (.aload 12, 2) := dk_25 12 (dk_at dksJ4_addAll_2_4 21 rfl rfl)
theorem dJ4_addAll_2_118 : decode cJ4_addAll_2 118 = .ok (.putfield 36, 3) := dk_181 0 36 (dk_at dksJ4_addAll_2_5 0 rfl rfl)
theorem dJ4_addAll_2_121 : decode cJ4_addAll_2 121 = .ok (.aload 12, 2) := dk_25 12 (dk_at dksJ4_addAll_2_5 3 rfl rfl)
theorem dJ4_addAll_2_123 : decode cJ4_addAll_2 123 = .ok (.astore 5, 2) := dk_58 5 (dk_at dksJ4_addAll_2_5 5 rfl rfl)
theorem dJ4_addAll_2_125 : decode cJ4_addAll_2 125 = .ok (.iinc 9 1, 3) := dk_132 9 1 (dk_at dksJ4_addAll_2_5 7 rfl rfl)
theorem dJ4_addAll_2_128 : decode cJ4_addAll_2 128 = .ok (.goto (-60), 3) := dk_167 255 196 (dk_at dksJ4_addAll_2_5 10 rfl rfl)
theorem dJ4_addAll_2_131 : decode cJ4_addAll_2 131 = .ok (.aload 6, 2) := dk_25 6 (dk_at dksJ4_addAll_2_5 13 rfl rfl)
theorem dJ4_addAll_2_133 : decode cJ4_addAll_2 133 = .ok (.ifnonnull 12, 3) := dk_199 0 12 (dk_at dksJ4_addAll_2_5 15 rfl rfl)
theorem dJ4_addAll_2_136 : decode cJ4_addAll_2 136 = .ok (.aload_n 0, 1) := dk_42 (dk_at dksJ4_addAll_2_5 18 rfl rfl)
theorem dJ4_addAll_2_137 : decode cJ4_addAll_2 137 = .ok (.aload 5, 2) := dk_25 5 (dk_at dksJ4_addAll_2_5 19 rfl rfl)
theorem dJ4_addAll_2_139 : decode cJ4_addAll_2 139 = .ok (.putfield 27, 3) := dk_181 0 27 (dk_at dksJ4_addAll_2_5 21 rfl rfl)
theorem dJ4_addAll_2_142 : decode cJ4_addAll_2 142 = .ok (.goto 17, 3) := dk_167 0 17 (dk_at dksJ4_addAll_2_6 0 rfl rfl)
theorem dJ4_addAll_2_145 : decode cJ4_addAll_2 145 = .ok (.aload 5, 2) := dk_25 5 (dk_at dksJ4_addAll_2_6 3 rfl rfl)
theorem dJ4_addAll_2_147 : decode cJ4_addAll_2 147 = .ok (.aload 6, 2) := dk_25 6 (dk_at dksJ4_addAll_2_6 5 rfl rfl)
theorem dJ4_addAll_2_149 : decode cJ4_addAll_2 149 = .ok (.putfield 36, 3) := dk_181 0 36 (dk_at dksJ4_addAll_2_6 7 rfl rfl)
theorem dJ4_addAll_2_152 : decode cJ4_addAll_2 152 = .ok (.aload 6, 2) := dk_25 6 (dk_at dksJ4_addAll_2_6 10 rfl rfl)
theorem dJ4_addAll_2_154 : decode cJ4_addAll_2 154 = .ok (.aload 5, 2) := dk_25 5 (dk_at dksJ4_addAll_2_6 12 rfl rfl)
theorem dJ4_addAll_2_156 : decode cJ4_addAll_2 156 = .ok (.putfield 30, 3) := dk_181 0 30 (dk_at dksJ4_addAll_2_6 14 rfl rfl)
theorem dJ4_addAll_2_159 : decode cJ4_addAll_2 159 = .ok (.aload_n 0, 1) := dk_42 (dk_at dksJ4_addAll_2_6 17 rfl rfl)
theorem dJ4_addAll_2_160 : decode cJ4_addAll_2 160 = .ok (.dup, 1) := dk_89 (dk_at dksJ4_addAll_2_6 18 rfl rfl)
theorem dJ4_addAll_2_161 : decode cJ4_addAll_2 161 = .ok (.getfield 7, 3) := dk_180 0 7 (dk_at dksJ4_addAll_2_6 19 rfl rfl)
theorem dJ4_addAll_2_164 : decode cJ4_addAll_2 164 = .ok (.iload 4, 2) := dk_21 4 (dk_at dksJ4_addAll_2_6 22 rfl rfl)
theorem dJ4_addAll_2_166 : decode cJ4_addAll_2 166 = .ok (.iadd, 1) := dk_96 (dk_at dksJ4_addAll_2_7 0 rfl rfl)
theorem dJ4_addAll_2_167 : decode cJ4_addAll_2 167 = .ok (.putfield 7, 3) := dk_181 0 7 (dk_at dksJ4_addAll_2_7 1 rfl rfl)
theorem dJ4_addAll_2_170 : decode cJ4_addAll_2 170 = .ok (.aload_n 0, 1) := dk_42 (dk_at dksJ4_addAll_2_7 4 rfl rfl)
theorem dJ4_addAll_2_171 : decode cJ4_addAll_2 171 = .ok (.dup, 1) := dk_89 (dk_at dksJ4_addAll_2_7 5 rfl rfl)
theorem dJ4_addAll_2_172 : decode cJ4_addAll_2 172 = .ok (.getfield 33, 3) := dk_180 0 33 (dk_at dksJ4_addAll_2_7 6 rfl rfl)
theorem dJ4_addAll_2_175 : decode cJ4_addAll_2 175 = .ok (.iconst 1, 1) := dk_4 (dk_at dksJ4_addAll_2_7 9 rfl rfl)
theorem dJ4_addAll_2_176 : decode cJ4_addAll_2 176 = .ok (.iadd, 1) := dk_96 (dk_at dksJ4_addAll_2_7 10 rfl rfl)
theorem dJ4_addAll_2_177 : decode cJ4_addAll_2 177 = .ok (.putfield 33, 3) := dk_181 0 33 (dk_at dksJ4_addAll_2_7 11 rfl rfl)
theorem dJ4_addAll_2_180 : decode cJ4_addAll_2 180 = .ok (.iconst 1, 1) := dk_4 (dk_at dksJ4_addAll_2_7 14 rfl rfl)
theorem dJ4_addAll_2_181 : decode cJ4_addAll_2 181 = .ok (.ireturn, 1) := dk_172 (dk_at dksJ4_addAll_2_7 15 rfl rfl)
theorem q103 : (Jvm.Cond.initialized "java/util/LinkedList") ∈ lw_all := lw_g (lw_at lw_m1 7 rfl) rfl
theorem q197 : (Jvm.Cond.sameField "java/util/LinkedList" "java/util/AbstractList" "modCount" "I") ∈ lw_all := lw_g (lw_at lw_m1 101 rfl) rfl
theorem q201 : (Jvm.Cond.fieldLink "java/util/LinkedList" (33 : Nat) "java/util/LinkedList" "modCount" "I") ∈ lw_all := lw_g (lw_at lw_m1 105 rfl) rfl
theorem q211 : (Jvm.Cond.instantiable "java/util/LinkedList" (4 : Nat)) ∈ lw_all := lw_g (lw_at lw_m1 115 rfl) rfl
theorem q213 : (Jvm.Cond.instanceMethod ({ cls := "java/util/LinkedList", name := "<init>", desc := "()V" } : Jvm.MethodName)) ∈ lw_all := lw_g (lw_at lw_m1 117 rfl) rfl
theorem q214 : (Jvm.Cond.code ({ cls := "java/util/LinkedList", name := "<init>", desc := "()V" } : Jvm.MethodName) prog_71_method_1_code (1 : Nat) (Option.none : Option Jvm.ClassFile.FieldType)) ∈ lw_all := lw_g (lw_at lw_m1 118 rfl) rfl
theorem q215 : (Jvm.Cond.methodLink "java/util/LinkedList" (1 : Nat) ({ cls := "java/util/AbstractSequentialList", name := "<init>", desc := "()V" } : Jvm.MethodName)) ∈ lw_all := lw_g (lw_at lw_m1 119 rfl) rfl
theorem q219 : (Jvm.Cond.fieldLink "java/util/LinkedList" (7 : Nat) "java/util/LinkedList" "size" "I") ∈ lw_all := lw_g (lw_at lw_m1 123 rfl) rfl
theorem q221 : (Jvm.Cond.fieldLink "java/util/LinkedList" (18 : Nat) "java/util/LinkedList" "first" "Ljava/util/LinkedList$Node;") ∈ lw_all := lw_g (lw_at lw_m1 125 rfl) rfl
theorem q222 : (Jvm.Cond.fieldLink "java/util/LinkedList" (27 : Nat) "java/util/LinkedList" "last" "Ljava/util/LinkedList$Node;") ∈ lw_all := lw_g (lw_at lw_m1 126 rfl) rfl
theorem q223 : (Jvm.Cond.lays "java/util/LinkedList" "java/util/LinkedList" "size" "I") ∈ lw_all := lw_g (lw_at lw_m1 127 rfl) rfl
theorem q224 : (Jvm.Cond.soleField "java/util/LinkedList" "size") ∈ lw_all := lw_g (lw_at lw_m1 128 rfl) rfl
theorem q225 : (Jvm.Cond.lays "java/util/LinkedList" "java/util/LinkedList" "first" "Ljava/util/LinkedList$Node;") ∈ lw_all := lw_g (lw_at lw_m1 129 rfl) rfl
theorem q226 : (Jvm.Cond.soleField "java/util/LinkedList" "first") ∈ lw_all := lw_g (lw_at lw_m1 130 rfl) rfl
theorem q227 : (Jvm.Cond.lays "java/util/LinkedList" "java/util/LinkedList" "last" "Ljava/util/LinkedList$Node;") ∈ lw_all := lw_g (lw_at lw_m1 131 rfl) rfl
theorem q228 : (Jvm.Cond.soleField "java/util/LinkedList" "last") ∈ lw_all := lw_g (lw_at lw_m1 132 rfl) rfl
theorem q229 : (Jvm.Cond.lays "java/util/LinkedList" "java/util/AbstractList" "modCount" "I") ∈ lw_all := lw_g (lw_at lw_m1 133 rfl) rfl
theorem q230 : (Jvm.Cond.superclass "java/util/LinkedList" "java/util/AbstractSequentialList") ∈ lw_all := lw_g (lw_at lw_m1 134 rfl) rfl
theorem q577 : (Jvm.Cond.instanceMethod ({ cls := "java/util/LinkedList", name := "size", desc := "()I" } : Jvm.MethodName)) ∈ lw_all := lw_g (lw_at lw_m3 1 rfl) rfl
theorem q578 : (Jvm.Cond.selects "java/util/LinkedList" ({ cls := "java/util/LinkedList", name := "size", desc := "()I" } : Jvm.MethodName) ({ cls := "java/util/LinkedList", name := "size", desc := "()I" } : Jvm.MethodName)) ∈ lw_all := lw_g (lw_at lw_m3 2 rfl) rfl
theorem q579 : (Jvm.Cond.code ({ cls := "java/util/LinkedList", name := "size", desc := "()I" } : Jvm.MethodName) prog_71_method_16_code (1 : Nat) (Option.some Jvm.ClassFile.FieldType.int)) ∈ lw_all := lw_g (lw_at lw_m3 3 rfl) rfl
theorem q581 : (Jvm.Cond.instanceMethod ({ cls := "java/util/LinkedList", name := "get", desc := "(I)Ljava/lang/Object;" } : Jvm.MethodName)) ∈ lw_all := lw_g (lw_at lw_m3 5 rfl) rfl
theorem q582 : (Jvm.Cond.selects "java/util/LinkedList" ({ cls := "java/util/LinkedList", name := "get", desc := "(I)Ljava/lang/Object;" } : Jvm.MethodName) ({ cls := "java/util/LinkedList", name := "get", desc := "(I)Ljava/lang/Object;" } : Jvm.MethodName)) ∈ lw_all := lw_g (lw_at lw_m3 6 rfl) rfl
theorem q583 : (Jvm.Cond.code ({ cls := "java/util/LinkedList", name := "get", desc := "(I)Ljava/lang/Object;" } : Jvm.MethodName) prog_71_method_22_code (2 : Nat) (Option.some (Jvm.ClassFile.FieldType.object "java/lang/Object"))) ∈ lw_all := lw_g (lw_at lw_m3 7 rfl) rfl
theorem q584 : (Jvm.Cond.methodLink "java/util/LinkedList" (90 : Nat) ({ cls := "java/util/LinkedList", name := "checkElementIndex", desc := "(I)V" } : Jvm.MethodName)) ∈ lw_all := lw_g (lw_at lw_m3 8 rfl) rfl
theorem q585 : (Jvm.Cond.privateMethod ({ cls := "java/util/LinkedList", name := "checkElementIndex", desc := "(I)V" } : Jvm.MethodName)) ∈ lw_tbl := lw_at lw_m3 9 rfl
theorem q586 : (Jvm.Cond.instanceMethod ({ cls := "java/util/LinkedList", name := "checkElementIndex", desc := "(I)V" } : Jvm.MethodName)) ∈ lw_all := lw_g (lw_at lw_m3 10 rfl) rfl
theorem q587 : (Jvm.Cond.code ({ cls := "java/util/LinkedList", name := "checkElementIndex", desc := "(I)V" } : Jvm.MethodName) prog_71_method_29_code (2 : Nat) (Option.none : Option Jvm.ClassFile.FieldType)) ∈ lw_all := lw_g (lw_at lw_m3 11 rfl) rfl
theorem q588 : (Jvm.Cond.methodLink "java/util/LinkedList" (115 : Nat) ({ cls := "java/util/LinkedList", name := "isElementIndex", desc := "(I)Z" } : Jvm.MethodName)) ∈ lw_all := lw_g (lw_at lw_m3 12 rfl) rfl
theorem q589 : (Jvm.Cond.privateMethod ({ cls := "java/util/LinkedList", name := "isElementIndex", desc := "(I)Z" } : Jvm.MethodName)) ∈ lw_tbl := lw_at lw_m3 13 rfl
theorem q590 : (Jvm.Cond.instanceMethod ({ cls := "java/util/LinkedList", name := "isElementIndex", desc := "(I)Z" } : Jvm.MethodName)) ∈ lw_all := lw_g (lw_at lw_m3 14 rfl) rfl
theorem q591 : (Jvm.Cond.code ({ cls := "java/util/LinkedList", name := "isElementIndex", desc := "(I)Z" } : Jvm.MethodName) prog_71_method_26_code (2 : Nat) (Option.some Jvm.ClassFile.FieldType.boolean)) ∈ lw_all := lw_g (lw_at lw_m3 15 rfl) rfl
theorem q592 : (Jvm.Cond.classLink "java/util/LinkedList" (119 : Nat) "java/lang/IndexOutOfBoundsException") ∈ lw_all := lw_g (lw_at lw_m3 16 rfl) rfl
theorem q601 : (Jvm.Cond.methodLink "java/util/LinkedList" (121 : Nat) ({ cls := "java/util/LinkedList", name := "outOfBoundsMsg", desc := "(I)Ljava/lang/String;" } : Jvm.MethodName)) ∈ lw_all := lw_g (lw_at lw_m3 25 rfl) rfl
theorem q602 : (Jvm.Cond.privateMethod ({ cls := "java/util/LinkedList", name := "outOfBoundsMsg", desc := "(I)Ljava/lang/String;" } : Jvm.MethodName)) ∈ lw_tbl := lw_at lw_m3 26 rfl
theorem q603 : (Jvm.Cond.instanceMethod ({ cls := "java/util/LinkedList", name := "outOfBoundsMsg", desc := "(I)Ljava/lang/String;" } : Jvm.MethodName)) ∈ lw_all := lw_g (lw_at lw_m3 27 rfl) rfl
theorem q604 : (Jvm.Cond.code ({ cls := "java/util/LinkedList", name := "outOfBoundsMsg", desc := "(I)Ljava/lang/String;" } : Jvm.MethodName) prog_71_method_28_code (2 : Nat) (Option.some (Jvm.ClassFile.FieldType.object "java/lang/String"))) ∈ lw_all := lw_g (lw_at lw_m3 28 rfl) rfl
theorem q605 : (Jvm.Cond.classLink "java/util/LinkedList" (97 : Nat) "java/lang/StringBuilder") ∈ lw_all := lw_g (lw_at lw_m3 29 rfl) rfl
theorem q607 : (Jvm.Cond.methodLink "java/util/LinkedList" (99 : Nat) ({ cls := "java/lang/StringBuilder", name := "<init>", desc := "()V" } : Jvm.MethodName)) ∈ lw_all := lw_g (lw_at lw_m3 31 rfl) rfl
theorem q641 : (Jvm.Cond.stringRef "java/util/LinkedList" (100 : Nat) "Index: ") ∈ lw_tbl := lw_at lw_m3 65 rfl
theorem q642 : (Jvm.Cond.methodLink "java/util/LinkedList" (102 : Nat) ({ cls := "java/lang/StringBuilder", name := "append", desc := "(Ljava/lang/String;)Ljava/lang/StringBuilder;" } : Jvm.MethodName)) ∈ lw_all := lw_g (lw_at lw_m3 66 rfl) rfl
theorem q760 : (Jvm.Cond.methodLink "java/util/LinkedList" (106 : Nat) ({ cls := "java/lang/StringBuilder", name := "append", desc := "(I)Ljava/lang/StringBuilder;" } : Jvm.MethodName)) ∈ lw_all := lw_g (lw_at lw_m3 184 rfl) rfl
theorem q785 : (Jvm.Cond.stringRef "java/util/LinkedList" (109 : Nat) ", Size: ") ∈ lw_tbl := lw_at lw_m3 209 rfl
theorem q786 : (Jvm.Cond.methodLink "java/util/LinkedList" (111 : Nat) ({ cls := "java/lang/StringBuilder", name := "toString", desc := "()Ljava/lang/String;" } : Jvm.MethodName)) ∈ lw_all := lw_g (lw_at lw_m3 210 rfl) rfl
theorem q841 : (Jvm.Cond.methodLink "java/util/LinkedList" (125 : Nat) ({ cls := "java/lang/IndexOutOfBoundsException", name := "<init>", desc := "(Ljava/lang/String;)V" } : Jvm.MethodName)) ∈ lw_all := lw_g (lw_at lw_m4 25 rfl) rfl
theorem q844 : (Jvm.Cond.methodLink "java/util/LinkedList" (86 : Nat) ({ cls := "java/util/LinkedList", name := "node", desc := "(I)Ljava/util/LinkedList$Node;" } : Jvm.MethodName)) ∈ lw_all := lw_g (lw_at lw_m4 28 rfl) rfl
theorem q845 : (Jvm.Cond.instanceMethod ({ cls := "java/util/LinkedList", name := "node", desc := "(I)Ljava/util/LinkedList$Node;" } : Jvm.MethodName)) ∈ lw_all := lw_g (lw_at lw_m4 29 rfl) rfl
theorem q846 : (Jvm.Cond.selects "java/util/LinkedList" ({ cls := "java/util/LinkedList", name := "node", desc := "(I)Ljava/util/LinkedList$Node;" } : Jvm.MethodName) ({ cls := "java/util/LinkedList", name := "node", desc := "(I)Ljava/util/LinkedList$Node;" } : Jvm.MethodName)) ∈ lw_all := lw_g (lw_at lw_m4 30 rfl) rfl
theorem q847 : (Jvm.Cond.code ({ cls := "java/util/LinkedList", name := "node", desc := "(I)Ljava/util/LinkedList$Node;" } : Jvm.MethodName) prog_71_method_31_code (4 : Nat) (Option.some (Jvm.ClassFile.FieldType.object "java/util/LinkedList$Node"))) ∈ lw_all := lw_g (lw_at lw_m4 31 rfl) rfl
theorem q1097 : (Jvm.Cond.selects "java/util/LinkedList" ({ cls := "java/lang/Object", name := "getClass", desc := "()Ljava/lang/Class;" } : Jvm.MethodName) ({ cls := "java/lang/Object", name := "getClass", desc := "()Ljava/lang/Class;" } : Jvm.MethodName)) ∈ lw_all := lw_g (lw_at lw_m5 41 rfl) rfl
theorem q1331 : (Jvm.Cond.selects "java/util/LinkedList" ({ cls := "java/util/AbstractList", name := "size", desc := "()I" } : Jvm.MethodName) ({ cls := "java/util/LinkedList", name := "size", desc := "()I" } : Jvm.MethodName)) ∈ lw_all := lw_g (lw_at lw_m6 35 rfl) rfl
theorem q1381 : (Jvm.Cond.selects "java/util/LinkedList" ({ cls := "java/util/AbstractList", name := "get", desc := "(I)Ljava/lang/Object;" } : Jvm.MethodName) ({ cls := "java/util/LinkedList", name := "get", desc := "(I)Ljava/lang/Object;" } : Jvm.MethodName)) ∈ lw_all := lw_g (lw_at lw_m6 85 rfl) rfl
theorem q1665 : (Jvm.Cond.instanceMethod ({ cls := "java/util/LinkedList", name := "addLast", desc := "(Ljava/lang/Object;)V" } : Jvm.MethodName)) ∈ lw_all := lw_g (lw_at lw_m7 129 rfl) rfl
theorem q1666 : (Jvm.Cond.selects "java/util/LinkedList" ({ cls := "java/util/LinkedList", name := "addLast", desc := "(Ljava/lang/Object;)V" } : Jvm.MethodName) ({ cls := "java/util/LinkedList", name := "addLast", desc := "(Ljava/lang/Object;)V" } : Jvm.MethodName)) ∈ lw_all := lw_g (lw_at lw_m7 130 rfl) rfl
theorem q1667 : (Jvm.Cond.code ({ cls := "java/util/LinkedList", name := "addLast", desc := "(Ljava/lang/Object;)V" } : Jvm.MethodName) prog_71_method_14_code (2 : Nat) (Option.none : Option Jvm.ClassFile.FieldType)) ∈ lw_all := lw_g (lw_at lw_m7 131 rfl) rfl
theorem q1668 : (Jvm.Cond.methodLink "java/util/LinkedList" (57 : Nat) ({ cls := "java/util/LinkedList", name := "linkLast", desc := "(Ljava/lang/Object;)V" } : Jvm.MethodName)) ∈ lw_all := lw_g (lw_at lw_m7 132 rfl) rfl
theorem q1669 : (Jvm.Cond.instanceMethod ({ cls := "java/util/LinkedList", name := "linkLast", desc := "(Ljava/lang/Object;)V" } : Jvm.MethodName)) ∈ lw_all := lw_g (lw_at lw_m7 133 rfl) rfl
theorem q1670 : (Jvm.Cond.selects "java/util/LinkedList" ({ cls := "java/util/LinkedList", name := "linkLast", desc := "(Ljava/lang/Object;)V" } : Jvm.MethodName) ({ cls := "java/util/LinkedList", name := "linkLast", desc := "(Ljava/lang/Object;)V" } : Jvm.MethodName)) ∈ lw_all := lw_g (lw_at lw_m7 134 rfl) rfl
theorem q1671 : (Jvm.Cond.code ({ cls := "java/util/LinkedList", name := "linkLast", desc := "(Ljava/lang/Object;)V" } : Jvm.MethodName) prog_71_method_4_code (4 : Nat) (Option.none : Option Jvm.ClassFile.FieldType)) ∈ lw_all := lw_g (lw_at lw_m7 135 rfl) rfl
theorem q1672 : (Jvm.Cond.classLink "java/util/LinkedList" (22 : Nat) "java/util/LinkedList$Node") ∈ lw_all := lw_g (lw_at lw_m7 136 rfl) rfl
theorem q1674 : (Jvm.Cond.methodLink "java/util/LinkedList" (24 : Nat) ({ cls := "java/util/LinkedList$Node", name := "<init>", desc := "(Ljava/util/LinkedList$Node;Ljava/lang/Object;Ljava/util/LinkedList$Node;)V" } : Jvm.MethodName)) ∈ lw_all := lw_g (lw_at lw_m7 138 rfl) rfl
theorem q1680 : (Jvm.Cond.fieldLink "java/util/LinkedList" (39 : Nat) "java/util/LinkedList$Node" "item" "Ljava/lang/Object;") ∈ lw_all := lw_g (lw_at lw_m7 144 rfl) rfl
theorem q1683 : (Jvm.Cond.fieldLink "java/util/LinkedList" (36 : Nat) "java/util/LinkedList$Node" "next" "Ljava/util/LinkedList$Node;") ∈ lw_all := lw_g (lw_at lw_m7 147 rfl) rfl
theorem q1685 : (Jvm.Cond.fieldLink "java/util/LinkedList" (30 : Nat) "java/util/LinkedList$Node" "prev" "Ljava/util/LinkedList$Node;") ∈ lw_all := lw_g (lw_at lw_m7 149 rfl) rfl
theorem q1695 : (Jvm.Cond.instanceMethod ({ cls := "java/util/LinkedList", name := "removeFirst", desc := "()Ljava/lang/Object;" } : Jvm.MethodName)) ∈ lw_all := lw_g (lw_at lw_m7 159 rfl) rfl
theorem q1696 : (Jvm.Cond.selects "java/util/LinkedList" ({ cls := "java/util/LinkedList", name := "removeFirst", desc := "()Ljava/lang/Object;" } : Jvm.MethodName) ({ cls := "java/util/LinkedList", name := "removeFirst", desc := "()Ljava/lang/Object;" } : Jvm.MethodName)) ∈ lw_all := lw_g (lw_at lw_m7 160 rfl) rfl
theorem q1697 : (Jvm.Cond.code ({ cls := "java/util/LinkedList", name := "removeFirst", desc := "()Ljava/lang/Object;" } : Jvm.MethodName) prog_71_method_11_code (2 : Nat) (Option.some (Jvm.ClassFile.FieldType.object "java/lang/Object"))) ∈ lw_all := lw_g (lw_at lw_m7 161 rfl) rfl
theorem q1698 : (Jvm.Cond.methodLink "java/util/LinkedList" (46 : Nat) ({ cls := "java/util/LinkedList", name := "unlinkFirst", desc := "(Ljava/util/LinkedList$Node;)Ljava/lang/Object;" } : Jvm.MethodName)) ∈ lw_all := lw_g (lw_at lw_m7 162 rfl) rfl
theorem q1699 : (Jvm.Cond.privateMethod ({ cls := "java/util/LinkedList", name := "unlinkFirst", desc := "(Ljava/util/LinkedList$Node;)Ljava/lang/Object;" } : Jvm.MethodName)) ∈ lw_tbl := lw_at lw_m7 163 rfl
theorem q1700 : (Jvm.Cond.instanceMethod ({ cls := "java/util/LinkedList", name := "unlinkFirst", desc := "(Ljava/util/LinkedList$Node;)Ljava/lang/Object;" } : Jvm.MethodName)) ∈ lw_all := lw_g (lw_at lw_m7 164 rfl) rfl
theorem q1701 : (Jvm.Cond.code ({ cls := "java/util/LinkedList", name := "unlinkFirst", desc := "(Ljava/util/LinkedList$Node;)Ljava/lang/Object;" } : Jvm.MethodName) prog_71_method_6_code (4 : Nat) (Option.some (Jvm.ClassFile.FieldType.object "java/lang/Object"))) ∈ lw_all := lw_g (lw_at lw_m7 165 rfl) rfl
theorem q1949 : (Jvm.Cond.instanceMethod ({ cls := "java/util/LinkedList", name := "remove", desc := "(I)Ljava/lang/Object;" } : Jvm.MethodName)) ∈ lw_all := lw_g (lw_at lw_m8 173 rfl) rfl
theorem q1950 : (Jvm.Cond.selects "java/util/LinkedList" ({ cls := "java/util/LinkedList", name := "remove", desc := "(I)Ljava/lang/Object;" } : Jvm.MethodName) ({ cls := "java/util/LinkedList", name := "remove", desc := "(I)Ljava/lang/Object;" } : Jvm.MethodName)) ∈ lw_all := lw_g (lw_at lw_m8 174 rfl) rfl
theorem q1951 : (Jvm.Cond.code ({ cls := "java/util/LinkedList", name := "remove", desc := "(I)Ljava/lang/Object;" } : Jvm.MethodName) prog_71_method_25_code (2 : Nat) (Option.some (Jvm.ClassFile.FieldType.object "java/lang/Object"))) ∈ lw_all := lw_g (lw_at lw_m8 175 rfl) rfl
theorem q1952 : (Jvm.Cond.methodLink "java/util/LinkedList" (64 : Nat) ({ cls := "java/util/LinkedList", name := "unlink", desc := "(Ljava/util/LinkedList$Node;)Ljava/lang/Object;" } : Jvm.MethodName)) ∈ lw_all := lw_g (lw_at lw_m8 176 rfl) rfl
theorem q1953 : (Jvm.Cond.instanceMethod ({ cls := "java/util/LinkedList", name := "unlink", desc := "(Ljava/util/LinkedList$Node;)Ljava/lang/Object;" } : Jvm.MethodName)) ∈ lw_all := lw_g (lw_at lw_m8 177 rfl) rfl
theorem q1954 : (Jvm.Cond.selects "java/util/LinkedList" ({ cls := "java/util/LinkedList", name := "unlink", desc := "(Ljava/util/LinkedList$Node;)Ljava/lang/Object;" } : Jvm.MethodName) ({ cls := "java/util/LinkedList", name := "unlink", desc := "(Ljava/util/LinkedList$Node;)Ljava/lang/Object;" } : Jvm.MethodName)) ∈ lw_all := lw_g (lw_at lw_m8 178 rfl) rfl
theorem q1955 : (Jvm.Cond.code ({ cls := "java/util/LinkedList", name := "unlink", desc := "(Ljava/util/LinkedList$Node;)Ljava/lang/Object;" } : Jvm.MethodName) prog_71_method_8_code (5 : Nat) (Option.some (Jvm.ClassFile.FieldType.object "java/lang/Object"))) ∈ lw_all := lw_g (lw_at lw_m8 179 rfl) rfl
theorem q1993 : (Jvm.Cond.sameMethod "java/util/LinkedList" "java/util/AbstractSequentialList" "iterator" "()Ljava/util/Iterator;") ∈ lw_all := lw_g (lw_at lw_m8 217 rfl) rfl
theorem q1995 : (Jvm.Cond.selects "java/util/LinkedList" ({ cls := "java/util/LinkedList", name := "iterator", desc := "()Ljava/util/Iterator;" } : Jvm.MethodName) ({ cls := "java/util/AbstractSequentialList", name := "iterator", desc := "()Ljava/util/Iterator;" } : Jvm.MethodName)) ∈ lw_all := lw_g (lw_at lw_m8 219 rfl) rfl
theorem q2001 : (Jvm.Cond.selects "java/util/LinkedList" ({ cls := "java/util/AbstractSequentialList", name := "listIterator", desc := "()Ljava/util/ListIterator;" } : Jvm.MethodName) ({ cls := "java/util/AbstractList", name := "listIterator", desc := "()Ljava/util/ListIterator;" } : Jvm.MethodName)) ∈ lw_all := lw_g (lw_at lw_m8 225 rfl) rfl
theorem q2024 : (Jvm.Cond.selects "java/util/LinkedList" ({ cls := "java/util/AbstractList", name := "listIterator", desc := "(I)Ljava/util/ListIterator;" } : Jvm.MethodName) ({ cls := "java/util/LinkedList", name := "listIterator", desc := "(I)Ljava/util/ListIterator;" } : Jvm.MethodName)) ∈ lw_all := lw_g (lw_at lw_m9 8 rfl) rfl
theorem q2025 : (Jvm.Cond.instanceMethod ({ cls := "java/util/LinkedList", name := "listIterator", desc := "(I)Ljava/util/ListIterator;" } : Jvm.MethodName)) ∈ lw_all := lw_g (lw_at lw_m9 9 rfl) rfl
theorem q2026 : (Jvm.Cond.code ({ cls := "java/util/LinkedList", name := "listIterator", desc := "(I)Ljava/util/ListIterator;" } : Jvm.MethodName) prog_71_method_49_code (2 : Nat) (Option.some (Jvm.ClassFile.FieldType.object "java/util/ListIterator"))) ∈ lw_all := lw_g (lw_at lw_m9 10 rfl) rfl
theorem q2027 : (Jvm.Cond.methodLink "java/util/LinkedList" (76 : Nat) ({ cls := "java/util/LinkedList", name := "checkPositionIndex", desc := "(I)V" } : Jvm.MethodName)) ∈ lw_all := lw_g (lw_at lw_m9 11 rfl) rfl
theorem q2028 : (Jvm.Cond.privateMethod ({ cls := "java/util/LinkedList", name := "checkPositionIndex", desc := "(I)V" } : Jvm.MethodName)) ∈ lw_tbl := lw_at lw_m9 12 rfl
theorem q2029 : (Jvm.Cond.instanceMethod ({ cls := "java/util/LinkedList", name := "checkPositionIndex", desc := "(I)V" } : Jvm.MethodName)) ∈ lw_all := lw_g (lw_at lw_m9 13 rfl) rfl
theorem q2030 : (Jvm.Cond.code ({ cls := "java/util/LinkedList", name := "checkPositionIndex", desc := "(I)V" } : Jvm.MethodName) prog_71_method_30_code (2 : Nat) (Option.none : Option Jvm.ClassFile.FieldType)) ∈ lw_all := lw_g (lw_at lw_m9 14 rfl) rfl
theorem q2031 : (Jvm.Cond.methodLink "java/util/LinkedList" (128 : Nat) ({ cls := "java/util/LinkedList", name := "isPositionIndex", desc := "(I)Z" } : Jvm.MethodName)) ∈ lw_all := lw_g (lw_at lw_m9 15 rfl) rfl
theorem q2032 : (Jvm.Cond.privateMethod ({ cls := "java/util/LinkedList", name := "isPositionIndex", desc := "(I)Z" } : Jvm.MethodName)) ∈ lw_tbl := lw_at lw_m9 16 rfl
theorem q2033 : (Jvm.Cond.instanceMethod ({ cls := "java/util/LinkedList", name := "isPositionIndex", desc := "(I)Z" } : Jvm.MethodName)) ∈ lw_all := lw_g (lw_at lw_m9 17 rfl) rfl
theorem q2034 : (Jvm.Cond.code ({ cls := "java/util/LinkedList", name := "isPositionIndex", desc := "(I)Z" } : Jvm.MethodName) prog_71_method_27_code (2 : Nat) (Option.some Jvm.ClassFile.FieldType.boolean)) ∈ lw_all := lw_g (lw_at lw_m9 18 rfl) rfl
theorem q2035 : (Jvm.Cond.classLink "java/util/LinkedList" (150 : Nat) "java/util/LinkedList$ListItr") ∈ lw_all := lw_g (lw_at lw_m9 19 rfl) rfl
theorem q2037 : (Jvm.Cond.methodLink "java/util/LinkedList" (152 : Nat) ({ cls := "java/util/LinkedList$ListItr", name := "<init>", desc := "(Ljava/util/LinkedList;I)V" } : Jvm.MethodName)) ∈ lw_all := lw_g (lw_at lw_m9 21 rfl) rfl
theorem q2091 : (Jvm.Cond.selects "java/util/LinkedList" ({ cls := "java/util/AbstractList", name := "remove", desc := "(I)Ljava/lang/Object;" } : Jvm.MethodName) ({ cls := "java/util/LinkedList", name := "remove", desc := "(I)Ljava/lang/Object;" } : Jvm.MethodName)) ∈ lw_all := lw_g (lw_at lw_m9 75 rfl) rfl
theorem q2691 : (Jvm.Cond.instanceMethod ({ cls := "java/util/LinkedList", name := "clear", desc := "()V" } : Jvm.MethodName)) ∈ lw_all := lw_g (lw_at lw_m11 195 rfl) rfl
theorem q2692 : (Jvm.Cond.selects "java/util/LinkedList" ({ cls := "java/util/LinkedList", name := "clear", desc := "()V" } : Jvm.MethodName) ({ cls := "java/util/LinkedList", name := "clear", desc := "()V" } : Jvm.MethodName)) ∈ lw_all := lw_g (lw_at lw_m11 196 rfl) rfl
theorem q2693 : (Jvm.Cond.code ({ cls := "java/util/LinkedList", name := "clear", desc := "()V" } : Jvm.MethodName) prog_71_method_21_code (3 : Nat) (Option.none : Option Jvm.ClassFile.FieldType)) ∈ lw_all := lw_g (lw_at lw_m11 197 rfl) rfl
theorem q2727 : (Jvm.Cond.castable "java/util/LinkedList" "java/util/Collection") ∈ lw_tbl := lw_at lw_m11 231 rfl
theorem q2728 : (Jvm.Cond.selects "java/util/LinkedList" ({ cls := "java/util/Collection", name := "toArray", desc := "()[Ljava/lang/Object;" } : Jvm.MethodName) ({ cls := "java/util/LinkedList", name := "toArray", desc := "()[Ljava/lang/Object;" } : Jvm.MethodName)) ∈ lw_all := lw_g (lw_at lw_m11 232 rfl) rfl
theorem q2729 : (Jvm.Cond.unhidden "java/util/LinkedList" "toArray" "()[Ljava/lang/Object;") ∈ lw_tbl := lw_at lw_m11 233 rfl
theorem q2730 : (Jvm.Cond.instanceMethod ({ cls := "java/util/LinkedList", name := "toArray", desc := "()[Ljava/lang/Object;" } : Jvm.MethodName)) ∈ lw_all := lw_g (lw_at lw_m11 234 rfl) rfl
theorem q2731 : (Jvm.Cond.publicMethod ({ cls := "java/util/LinkedList", name := "toArray", desc := "()[Ljava/lang/Object;" } : Jvm.MethodName)) ∈ lw_tbl := lw_at lw_m11 235 rfl
theorem q2732 : (Jvm.Cond.code ({ cls := "java/util/LinkedList", name := "toArray", desc := "()[Ljava/lang/Object;" } : Jvm.MethodName) prog_71_method_53_code (4 : Nat) (Option.some (Jvm.ClassFile.FieldType.array (Jvm.ClassFile.FieldType.object "java/lang/Object")))) ∈ lw_all := lw_g (lw_at lw_m11 236 rfl) rfl
theorem q2733 : (Jvm.Cond.classLink "java/util/LinkedList" (68 : Nat) "java/lang/Object") ∈ lw_all := lw_g (lw_at lw_m11 237 rfl) rfl
theorem q2741 : (Jvm.Cond.instanceMethod ({ cls := "java/util/LinkedList", name := "addAll", desc := "(Ljava/util/Collection;)Z" } : Jvm.MethodName)) ∈ lw_all := lw_g (lw_at lw_m12 5 rfl) rfl
theorem q2742 : (Jvm.Cond.selects "java/util/LinkedList" ({ cls := "java/util/LinkedList", name := "addAll", desc := "(Ljava/util/Collection;)Z" } : Jvm.MethodName) ({ cls := "java/util/LinkedList", name := "addAll", desc := "(Ljava/util/Collection;)Z" } : Jvm.MethodName)) ∈ lw_all := lw_g (lw_at lw_m12 6 rfl) rfl
theorem q2743 : (Jvm.Cond.code ({ cls := "java/util/LinkedList", name := "addAll", desc := "(Ljava/util/Collection;)Z" } : Jvm.MethodName) prog_71_method_19_code (2 : Nat) (Option.some Jvm.ClassFile.FieldType.boolean)) ∈ lw_all := lw_g (lw_at lw_m12 7 rfl) rfl
theorem q2744 : (Jvm.Cond.methodLink "java/util/LinkedList" (73 : Nat) ({ cls := "java/util/LinkedList", name := "addAll", desc := "(ILjava/util/Collection;)Z" } : Jvm.MethodName)) ∈ lw_all := lw_g (lw_at lw_m12 8 rfl) rfl
theorem q2745 : (Jvm.Cond.instanceMethod ({ cls := "java/util/LinkedList", name := "addAll", desc := "(ILjava/util/Collection;)Z" } : Jvm.MethodName)) ∈ lw_all := lw_g (lw_at lw_m12 9 rfl) rfl
theorem q2746 : (Jvm.Cond.selects "java/util/LinkedList" ({ cls := "java/util/LinkedList", name := "addAll", desc := "(ILjava/util/Collection;)Z" } : Jvm.MethodName) ({ cls := "java/util/LinkedList", name := "addAll", desc := "(ILjava/util/Collection;)Z" } : Jvm.MethodName)) ∈ lw_all := lw_g (lw_at lw_m12 10 rfl) rfl
theorem q2747 : (Jvm.Cond.code ({ cls := "java/util/LinkedList", name := "addAll", desc := "(ILjava/util/Collection;)Z" } : Jvm.MethodName) prog_71_method_20_code (13 : Nat) (Option.some Jvm.ClassFile.FieldType.boolean)) ∈ lw_all := lw_g (lw_at lw_m12 11 rfl) rfl
theorem q2748 : (Jvm.Cond.interfaceEntry "java/util/LinkedList" (80 : Nat)) ∈ lw_tbl := lw_at lw_m12 12 rfl
theorem q2749 : (Jvm.Cond.methodLink "java/util/LinkedList" (80 : Nat) ({ cls := "java/util/Collection", name := "toArray", desc := "()[Ljava/lang/Object;" } : Jvm.MethodName)) ∈ lw_all := lw_g (lw_at lw_m12 13 rfl) rfl
theorem q3315 : (Jvm.Cond.castable "java/util/LinkedList" "java/lang/Object") ∈ lw_tbl := lw_at lw_m14 99 rfl
theorem in_J4 : ∀ w ∈ wsJ40, w ∈ lw_all := lw_in wsJ40 [229, 223, 225, 227] (by decide +kernel) (by decide +kernel)
/-! java/lang/String -/
def RJ9 : String := "java/lang/String"
def TJ9 : u_T := fun k => match k with
  | 0 => ("java/lang/String", "value", "[B", true)
  | 1 => ("java/lang/String", "coder", "B", true)
  | 2 => ("java/lang/String", "hash", "I", false)
  | _ => ("java/lang/String", "hashIsZero", "Z", false)
def tyJ9 : Nat → FieldType := fun k => match k with
  | 0 => .array .byte
  | 1 => .byte
  | 2 => .int
  | _ => .boolean
abbrev wsJ90 : List Cond := u_ws RJ9 TJ9 4
theorem nmJ9 : ∀ a, a < 4 → ∀ b, b < 4 → a ≠ b → (TJ9 a).2.1 ≠ (TJ9 b).2.1 := by decide +kernel
theorem tyJ9_ok : ∀ k, k < 4 → parseFieldDescriptor (TJ9 k).2.2.1 = some (tyJ9 k) := by decide +kernel
abbrev cJ9_checkBoundsBeginEnd : ByteArray := prog_46_method_158_code
def yJ9_checkBoundsBeginEnd : MethodName := ⟨RJ9, "checkBoundsBeginEnd", "(III)V"⟩
def dkwJ9_checkBoundsBeginEnd_0 : List UInt8 := [26, 27, 28, 178, 4, 29, 184, 4, 38, 87, 177]
abbrev dktJ9_checkBoundsBeginEnd_0 : List UInt8 := dkwJ9_checkBoundsBeginEnd_0 ++ []
theorem dksJ9_checkBoundsBeginEnd_0 : cJ9_checkBoundsBeginEnd.data.toList.drop 0 = dktJ9_checkBoundsBeginEnd_0 := by decide +kernel
theorem dJ9_checkBoundsBeginEnd_0 : decode cJ9_checkBoundsBeginEnd 0 = .ok (.iload_n 0, 1) := dk_26 (dk_at dksJ9_checkBoundsBeginEnd_0 0 rfl rfl)
theorem dJ9_checkBoundsBeginEnd_1 : decode cJ9_checkBoundsBeginEnd 1 = .ok (.iload_n 1, 1) := dk_27 (dk_at dksJ9_checkBoundsBeginEnd_0 1 rfl rfl)
theorem dJ9_checkBoundsBeginEnd_2 : decode cJ9_checkBoundsBeginEnd 2 = .ok (.iload_n 2, 1) := dk_28 (dk_at dksJ9_checkBoundsBeginEnd_0 2 rfl rfl)
theorem dJ9_checkBoundsBeginEnd_3 : decode cJ9_checkBoundsBeginEnd 3 = .ok (.getstatic 1053, 3) := dk_178 4 29 (dk_at dksJ9_checkBoundsBeginEnd_0 3 rfl rfl)
theorem dJ9_checkBoundsBeginEnd_6 : decode cJ9_checkBoundsBeginEnd 6 = .ok (.invokestatic 1062, 3) := dk_184 4 38 (dk_at dksJ9_checkBoundsBeginEnd_0 6 rfl rfl)
theorem dJ9_checkBoundsBeginEnd_9 : decode cJ9_checkBoundsBeginEnd 9 = .ok (.pop, 1) := dk_87 (dk_at dksJ9_checkBoundsBeginEnd_0 9 rfl rfl)
theorem dJ9_checkBoundsBeginEnd_10 : decode cJ9_checkBoundsBeginEnd 10 = .ok (.return_, 1) := dk_177 (dk_at dksJ9_checkBoundsBeginEnd_0 10 rfl rfl)
abbrev cJ9_length : ByteArray := prog_46_method_54_code
def yJ9_length : MethodName := ⟨RJ9, "length", "()I"⟩
def dkwJ9_length_0 : List UInt8 := [42, 180, 0, 9, 190, 42, 182, 1, 79, 122, 172]
abbrev dktJ9_length_0 : List UInt8 := dkwJ9_length_0 ++ []
theorem dksJ9_length_0 : cJ9_length.data.toList.drop 0 = dktJ9_length_0 := by decide +kernel
theorem dJ9_length_0 : decode cJ9_length 0 = .ok (.aload_n 0, 1) := dk_42 (dk_at dksJ9_length_0 0 rfl rfl)
theorem dJ9_length_1 : decode cJ9_length 1 = .ok (.getfield 9, 3) := dk_180 0 9 (dk_at dksJ9_length_0 1 rfl rfl)
theorem dJ9_length_4 : decode cJ9_length 4 = .ok (.arraylength, 1) := dk_190 (dk_at dksJ9_length_0 4 rfl rfl)
theorem dJ9_length_5 : decode cJ9_length 5 = .ok (.aload_n 0, 1) := dk_42 (dk_at dksJ9_length_0 5 rfl rfl)
theorem dJ9_length_6 : decode cJ9_length 6 = .ok (.invokevirtual 335, 3) := dk_182 1 79 (dk_at dksJ9_length_0 6 rfl rfl)
theorem dJ9_length_9 : decode cJ9_length 9 = .ok (.ishr, 1) := dk_122 (dk_at dksJ9_length_0 9 rfl rfl)
theorem dJ9_length_10 : decode cJ9_length 10 = .ok (.ireturn, 1) := dk_172 (dk_at dksJ9_length_0 10 rfl rfl)
abbrev cJ9_coder : ByteArray := prog_46_method_152_code
def yJ9_coder : MethodName := ⟨RJ9, "coder", "()B"⟩
def dkwJ9_coder_0 : List UInt8 := [178, 0, 38, 153, 0, 10, 42, 180, 0, 15, 167, 0, 4, 4, 172]
abbrev dktJ9_coder_0 : List UInt8 := dkwJ9_coder_0 ++ []
theorem dksJ9_coder_0 : cJ9_coder.data.toList.drop 0 = dktJ9_coder_0 := by decide +kernel
theorem dJ9_coder_0 : decode cJ9_coder 0 = .ok (.getstatic 38, 3) := dk_178 0 38 (dk_at dksJ9_coder_0 0 rfl rfl)
theorem dJ9_coder_3 : decode cJ9_coder 3 = .ok (.ifCond .eq 10, 3) := dk_153 0 10 (dk_at dksJ9_coder_0 3 rfl rfl)
theorem dJ9_coder_6 : decode cJ9_coder 6 = .ok (.aload_n 0, 1) := dk_42 (dk_at dksJ9_coder_0 6 rfl rfl)
theorem dJ9_coder_7 : decode cJ9_coder 7 = .ok (.getfield 15, 3) := dk_180 0 15 (dk_at dksJ9_coder_0 7 rfl rfl)
theorem dJ9_coder_10 : decode cJ9_coder 10 = .ok (.goto 4, 3) := dk_167 0 4 (dk_at dksJ9_coder_0 10 rfl rfl)
theorem dJ9_coder_13 : decode cJ9_coder 13 = .ok (.iconst 1, 1) := dk_4 (dk_at dksJ9_coder_0 13 rfl rfl)
theorem dJ9_coder_14 : decode cJ9_coder 14 = .ok (.ireturn, 1) := dk_172 (dk_at dksJ9_coder_0 14 rfl rfl)
abbrev cJ9_checkBoundsOffCount : ByteArray := prog_46_method_157_code
def yJ9_checkBoundsOffCount : MethodName := ⟨RJ9, "checkBoundsOffCount", "(III)I"⟩
def dkwJ9_checkBoundsOffCount_0 : List UInt8 := [26, 27, 28, 178, 4, 29, 184, 4, 41, 172]
abbrev dktJ9_checkBoundsOffCount_0 : List UInt8 := dkwJ9_checkBoundsOffCount_0 ++ []
theorem dksJ9_checkBoundsOffCount_0 : cJ9_checkBoundsOffCount.data.toList.drop 0 = dktJ9_checkBoundsOffCount_0 := by decide +kernel
theorem dJ9_checkBoundsOffCount_0 : decode cJ9_checkBoundsOffCount 0 = .ok (.iload_n 0, 1) := dk_26 (dk_at dksJ9_checkBoundsOffCount_0 0 rfl rfl)
theorem dJ9_checkBoundsOffCount_1 : decode cJ9_checkBoundsOffCount 1 = .ok (.iload_n 1, 1) := dk_27 (dk_at dksJ9_checkBoundsOffCount_0 1 rfl rfl)
theorem dJ9_checkBoundsOffCount_2 : decode cJ9_checkBoundsOffCount 2 = .ok (.iload_n 2, 1) := dk_28 (dk_at dksJ9_checkBoundsOffCount_0 2 rfl rfl)
theorem dJ9_checkBoundsOffCount_3 : decode cJ9_checkBoundsOffCount 3 = .ok (.getstatic 1053, 3) := dk_178 4 29 (dk_at dksJ9_checkBoundsOffCount_0 3 rfl rfl)
theorem dJ9_checkBoundsOffCount_6 : decode cJ9_checkBoundsOffCount 6 = .ok (.invokestatic 1065, 3) := dk_184 4 41 (dk_at dksJ9_checkBoundsOffCount_0 6 rfl rfl)
theorem dJ9_checkBoundsOffCount_9 : decode cJ9_checkBoundsOffCount 9 = .ok (.ireturn, 1) := dk_172 (dk_at dksJ9_checkBoundsOffCount_0 9 rfl rfl)
abbrev cJ9_getBytes : ByteArray := prog_46_method_147_code
def yJ9_getBytes : MethodName := ⟨RJ9, "getBytes", "([BIB)V"⟩
def dkwJ9_getBytes_1 : List UInt8 := [184, 0, 212, 167, 0, 18, 42, 180, 0, 9, 3, 43, 28, 42, 180, 0, 9, 190, 184, 0, 106, 177]
abbrev dktJ9_getBytes_1 : List UInt8 := dkwJ9_getBytes_1 ++ []
def dkwJ9_getBytes_0 : List UInt8 := [42, 182, 1, 79, 29, 160, 0, 23, 42, 180, 0, 9, 3, 43, 28, 29, 120, 42, 180, 0, 9, 190]
abbrev dktJ9_getBytes_0 : List UInt8 := dkwJ9_getBytes_0 ++ dktJ9_getBytes_1
theorem dksJ9_getBytes_0 : cJ9_getBytes.data.toList.drop 0 = dktJ9_getBytes_0 := by decide +kernel
theorem dksJ9_getBytes_1 : cJ9_getBytes.data.toList.drop 22 = dktJ9_getBytes_1 := dk_seg dksJ9_getBytes_0 22 rfl rfl
theorem dJ9_getBytes_0 : decode cJ9_getBytes 0 = .ok (.aload_n 0, 1) := dk_42 (dk_at dksJ9_getBytes_0 0 rfl rfl)
theorem dJ9_getBytes_1 : decode cJ9_getBytes 1 = .ok (.invokevirtual 335, 3) := dk_182 1 79 (dk_at dksJ9_getBytes_0 1 rfl rfl)
theorem dJ9_getBytes_4 : decode cJ9_getBytes 4 = .ok (.iload_n 3, 1) := dk_29 (dk_at dksJ9_getBytes_0 4 rfl rfl)
theorem dJ9_getBytes_5 : decode cJ9_getBytes 5 = .ok (.if_icmp .ne 23, 3) := dk_160 0 23 (dk_at dksJ9_getBytes_0 5 rfl rfl)
theorem dJ9_getBytes_8 : decode cJ9_getBytes 8 = .ok (.aload_n 0, 1) := dk_42 (dk_at dksJ9_getBytes_0 8 rfl rfl)
theorem dJ9_getBytes_9 : decode cJ9_getBytes 9 = .ok (.getfield 9, 3) := dk_180 0 9 (dk_at dksJ9_getBytes_0 9 rfl rfl)
theorem dJ9_getBytes_12 : decode cJ9_getBytes 12 = .ok (.iconst 0, 1) := dk_3 (dk_at dksJ9_getBytes_0 12 rfl rfl)
theorem dJ9_getBytes_13 : decode cJ9_getBytes 13 = .ok (.aload_n 1, 1) := dk_43 (dk_at dksJ9_getBytes_0 13 rfl rfl)
theorem dJ9_getBytes_14 : decode cJ9_getBytes 14 = .ok (.iload_n 2, 1) := dk_28 (dk_at dksJ9_getBytes_0 14 rfl rfl)
theorem dJ9_getBytes_15 : decode cJ9_getBytes 15 = .ok (.iload_n 3, 1) := dk_29 (dk_at dksJ9_getBytes_0 15 rfl rfl)
theorem dJ9_getBytes_16 : decode cJ9_getBytes 16 = .ok (.ishl, 1) := dk_120 (dk_at dksJ9_getBytes_0 16 rfl rfl)
theorem dJ9_getBytes_17 : decode cJ9_getBytes 17 = .ok (.aload_n 0, 1) := dk_42 (dk_at dksJ9_getBytes_0 17 rfl rfl)
theorem dJ9_getBytes_18 : decode cJ9_getBytes 18 = .ok (.getfield 9, 3) := dk_180 0 9 (dk_at dksJ9_getBytes_0 18 rfl rfl)
theorem dJ9_getBytes_21 : decode cJ9_getBytes 21 = .ok (.arraylength, 1) := dk_190 (dk_at dksJ9_getBytes_0 21 rfl rfl)
theorem dJ9_getBytes_22 : decode cJ9_getBytes 22 = .ok (.invokestatic 212, 3) := dk_184 0 212 (dk_at dksJ9_getBytes_1 0 rfl rfl)
theorem dJ9_getBytes_25 : decode cJ9_getBytes 25 = .ok (.goto 18, 3) := dk_167 0 18 (dk_at dksJ9_getBytes_1 3 rfl rfl)
theorem dJ9_getBytes_28 : decode cJ9_getBytes 28 = .ok (.aload_n 0, 1) := dk_42 (dk_at dksJ9_getBytes_1 6 rfl rfl)
theorem dJ9_getBytes_29 : decode cJ9_getBytes 29 = .ok (.getfield 9, 3) := dk_180 0 9 (dk_at dksJ9_getBytes_1 7 rfl rfl)
theorem dJ9_getBytes_32 : decode cJ9_getBytes 32 = .ok (.iconst 0, 1) := dk_3 (dk_at dksJ9_getBytes_1 10 rfl rfl)
theorem dJ9_getBytes_33 : decode cJ9_getBytes 33 = .ok (.aload_n 1, 1) := dk_43 (dk_at dksJ9_getBytes_1 11 rfl rfl)
theorem dJ9_getBytes_34 : decode cJ9_getBytes 34 = .ok (.iload_n 2, 1) := dk_28 (dk_at dksJ9_getBytes_1 12 rfl rfl)
theorem dJ9_getBytes_35 : decode cJ9_getBytes 35 = .ok (.aload_n 0, 1) := dk_42 (dk_at dksJ9_getBytes_1 13 rfl rfl)
theorem dJ9_getBytes_36 : decode cJ9_getBytes 36 = .ok (.getfield 9, 3) := dk_180 0 9 (dk_at dksJ9_getBytes_1 14 rfl rfl)
theorem dJ9_getBytes_39 : decode cJ9_getBytes 39 = .ok (.arraylength, 1) := dk_190 (dk_at dksJ9_getBytes_1 17 rfl rfl)
theorem dJ9_getBytes_40 : decode cJ9_getBytes 40 = .ok (.invokestatic 106, 3) := dk_184 0 106 (dk_at dksJ9_getBytes_1 18 rfl rfl)
theorem dJ9_getBytes_43 : decode cJ9_getBytes 43 = .ok (.return_, 1) := dk_177 (dk_at dksJ9_getBytes_1 21 rfl rfl)
abbrev cJ9_init : ByteArray := prog_46_method_53_code
def yJ9_init : MethodName := ⟨RJ9, "<init>", "(Ljava/lang/StringBuilder;)V"⟩
def dkwJ9_init_0 : List UInt8 := [42, 43, 1, 183, 1, 233, 177]
abbrev dktJ9_init_0 : List UInt8 := dkwJ9_init_0 ++ []
theorem dksJ9_init_0 : cJ9_init.data.toList.drop 0 = dktJ9_init_0 := by decide +kernel
theorem dJ9_init_0 : decode cJ9_init 0 = .ok (.aload_n 0, 1) := dk_42 (dk_at dksJ9_init_0 0 rfl rfl)
theorem dJ9_init_1 : decode cJ9_init 1 = .ok (.aload_n 1, 1) := dk_43 (dk_at dksJ9_init_0 1 rfl rfl)
theorem dJ9_init_2 : decode cJ9_init 2 = .ok (.aconst_null, 1) := dk_1 (dk_at dksJ9_init_0 2 rfl rfl)
theorem dJ9_init_3 : decode cJ9_init 3 = .ok (.invokespecial 489, 3) := dk_183 1 233 (dk_at dksJ9_init_0 3 rfl rfl)
theorem dJ9_init_6 : decode cJ9_init 6 = .ok (.return_, 1) := dk_177 (dk_at dksJ9_init_0 6 rfl rfl)
abbrev cJ9_init_2 : ByteArray := prog_46_method_150_code
def yJ9_init_2 : MethodName := ⟨RJ9, "<init>", "(Ljava/lang/AbstractStringBuilder;Ljava/lang/Void;)V"⟩
def dkwJ9_init_2_4 : List UInt8 := [181, 0, 9, 177]
abbrev dktJ9_init_2_4 : List UInt8 := dkwJ9_init_2_4 ++ []
def dkwJ9_init_2_3 : List UInt8 := [184, 0, 47, 181, 0, 15, 177, 42, 4, 181, 0, 15, 42, 45, 3, 21, 4, 4, 120, 184, 0, 54]
abbrev dktJ9_init_2_3 : List UInt8 := dkwJ9_init_2_3 ++ dktJ9_init_2_4
def dkwJ9_init_2_2 : List UInt8 := [180, 4, 24, 153, 0, 28, 42, 45, 3, 21, 4, 184, 4, 27, 181, 0, 9, 42, 42, 180, 0, 9, 21, 4]
abbrev dktJ9_init_2_2 : List UInt8 := dkwJ9_init_2_2 ++ dktJ9_init_2_3
def dkwJ9_init_2_1 : List UInt8 := [181, 0, 15, 42, 45, 3, 21, 4, 184, 0, 54, 181, 0, 9, 167, 0, 59, 178, 0, 38, 153, 0, 35, 43]
abbrev dktJ9_init_2_1 : List UInt8 := dkwJ9_init_2_1 ++ dktJ9_init_2_2
def dkwJ9_init_2_0 : List UInt8 := [42, 183, 0, 1, 43, 182, 2, 40, 78, 43, 182, 2, 37, 54, 4, 43, 182, 4, 23, 153, 0, 22, 42, 3]
abbrev dktJ9_init_2_0 : List UInt8 := dkwJ9_init_2_0 ++ dktJ9_init_2_1
theorem dksJ9_init_2_0 : cJ9_init_2.data.toList.drop 0 = dktJ9_init_2_0 := by decide +kernel
theorem dksJ9_init_2_1 : cJ9_init_2.data.toList.drop 24 = dktJ9_init_2_1 := dk_seg dksJ9_init_2_0 24 rfl rfl
theorem dksJ9_init_2_2 : cJ9_init_2.data.toList.drop 48 = dktJ9_init_2_2 := dk_seg dksJ9_init_2_1 24 rfl rfl
theorem dksJ9_init_2_3 : cJ9_init_2.data.toList.drop 72 = dktJ9_init_2_3 := dk_seg dksJ9_init_2_2 24 rfl rfl
theorem dksJ9_init_2_4 : cJ9_init_2.data.toList.drop 94 = dktJ9_init_2_4 := dk_seg dksJ9_init_2_3 22 rfl rfl
theorem dJ9_init_2_0 : decode cJ9_init_2 0 = .ok (.aload_n 0, 1) := dk_42 (dk_at dksJ9_init_2_0 0 rfl rfl)
theorem dJ9_init_2_1 : decode cJ9_init_2 1 = .ok (.invokespecial 1, 3) := dk_183 0 1 (dk_at dksJ9_init_2_0 1 rfl rfl)
theorem dJ9_init_2_4 : decode cJ9_init_2 4 = .ok (.aload_n 1, 1) := dk_43 (dk_at dksJ9_init_2_0 4 rfl rfl)
theorem dJ9_init_2_5 : decode cJ9_init_2 5 = .ok (.invokevirtual 552, 3) := dk_182 2 40 (dk_at dksJ9_init_2_0 5 rfl rfl)
theorem dJ9_init_2_8 : decode cJ9_init_2 8 = .ok (.astore_n 3, 1) := dk_78 (dk_at dksJ9_init_2_0 8 rfl rfl)
theorem dJ9_init_2_9 : decode cJ9_init_2 9 = .ok (.aload_n 1, 1) := dk_43 (dk_at dksJ9_init_2_0 9 rfl rfl)
theorem dJ9_init_2_10 : decode cJ9_init_2 10 = .ok (.invokevirtual 549, 3) := dk_182 2 37 (dk_at dksJ9_init_2_0 10 rfl rfl)
theorem dJ9_init_2_13 : decode cJ9_init_2 13 = .ok (.istore 4, 2) := dk_54 4 (dk_at dksJ9_init_2_0 13 rfl rfl)
theorem dJ9_init_2_15 : decode cJ9_init_2 15 = .ok (.aload_n 1, 1) := dk_43 (dk_at dksJ9_init_2_0 15 rfl rfl)
theorem dJ9_init_2_16 : decode cJ9_init_2 16 = .ok (.invokevirtual 1047, 3) := dk_182 4 23 (dk_at dksJ9_init_2_0 16 rfl rfl)
theorem dJ9_init_2_19 : decode cJ9_init_2 19 = .ok (.ifCond .eq 22, 3) := dk_153 0 22 (dk_at dksJ9_init_2_0 19 rfl rfl)
theorem dJ9_init_2_22 : decode cJ9_init_2 22 = .ok (.aload_n 0, 1) := dk_42 (dk_at dksJ9_init_2_0 22 rfl rfl)
theorem dJ9_init_2_23 : decode cJ9_init_2 23 = .ok (.iconst 0, 1) := dk_3 (dk_at dksJ9_init_2_0 23 rfl rfl)
theorem dJ9_init_2_24 : decode cJ9_init_2 24 = .ok (.putfield 15, 3) := dk_181 0 15 (dk_at dksJ9_init_2_1 0 rfl rfl)
theorem dJ9_init_2_27 : decode cJ9_init_2 27 = .ok (.aload_n 0, 1) := dk_42 (dk_at dksJ9_init_2_1 3 rfl rfl)
theorem dJ9_init_2_28 : decode cJ9_init_2 28 = .ok (.aload_n 3, 1) := dk_45 (dk_at dksJ9_init_2_1 4 rfl rfl)
theorem dJ9_init_2_29 : decode cJ9_init_2 29 = .ok (.iconst 0, 1) := dk_3 (dk_at dksJ9_init_2_1 5 rfl rfl)
theorem dJ9_init_2_30 : decode cJ9_init_2 30 = .ok (.iload 4, 2) := dk_21 4 (dk_at dksJ9_init_2_1 6 rfl rfl)
theorem dJ9_init_2_32 : decode cJ9_init_2 32 = .ok (.invokestatic 54, 3) := dk_184 0 54 (dk_at dksJ9_init_2_1 8 rfl rfl)
theorem dJ9_init_2_35 : decode cJ9_init_2 35 = .ok (.putfield 9, 3) := dk_181 0 9 (dk_at dksJ9_init_2_1 11 rfl rfl)
theorem dJ9_init_2_38 : decode cJ9_init_2 38 = .ok (.goto 59, 3) := dk_167 0 59 (dk_at dksJ9_init_2_1 14 rfl rfl)
theorem dJ9_init_2_41 : decode cJ9_init_2 41 = .ok (.getstatic 38, 3) := dk_178 0 38 (dk_at dksJ9_init_2_1 17 rfl rfl)
theorem dJ9_init_2_44 : decode cJ9_init_2 44 = .ok (.ifCond .eq 35, 3) := dk_153 0 35 (dk_at dksJ9_init_2_1 20 rfl rfl)
theorem dJ9_init_2_47 : decode cJ9_init_2 47 = .ok (.aload_n 1, 1) := dk_43 (dk_at dksJ9_init_2_1 23 rfl rfl)
theorem dJ9_init_2_48 : decode cJ9_init_2 48 = .ok (.getfield 1048, 3) := dk_180 4 24 (dk_at dksJ9_init_2_2 0 rfl rfl)
theorem dJ9_init_2_51 : decode cJ9_init_2 51 = .ok (.ifCond .eq 28, 3) := dk_153 0 28 (dk_at dksJ9_init_2_2 3 rfl rfl)
theorem dJ9_init_2_54 : decode cJ9_init_2 54 = .ok (.aload_n 0, 1) := dk_42 (dk_at dksJ9_init_2_2 6 rfl rfl)
theorem dJ9_init_2_55 : decode cJ9_init_2 55 = .ok (.aload_n 3, 1) := dk_45 (dk_at dksJ9_init_2_2 7 rfl rfl)
theorem dJ9_init_2_56 : decode cJ9_init_2 56 = .ok (.iconst 0, 1) := dk_3 (dk_at dksJ9_init_2_2 8 rfl rfl)
theorem dJ9_init_2_57 : decode cJ9_init_2 57 = .ok (.iload 4, 2) := dk_21 4 (dk_at dksJ9_init_2_2 9 rfl rfl)
theorem dJ9_init_2_59 : decode cJ9_init_2 59 = .ok (.invokestatic 1051, 3) := dk_184 4 27 (dk_at dksJ9_init_2_2 11 rfl rfl)
theorem dJ9_init_2_62 : decode cJ9_init_2 62 = .ok (.putfield 9, 3) := dk_181 0 9 (dk_at dksJ9_init_2_2 14 rfl rfl)
theorem dJ9_init_2_65 : decode cJ9_init_2 65 = .ok (.aload_n 0, 1) := dk_42 (dk_at dksJ9_init_2_2 17 rfl rfl)
theorem dJ9_init_2_66 : decode cJ9_init_2 66 = .ok (.aload_n 0, 1) := dk_42 (dk_at dksJ9_init_2_2 18 rfl rfl)
theorem dJ9_init_2_67 : decode cJ9_init_2 67 = .ok (.getfield 9, 3) := dk_180 0 9 (dk_at dksJ9_init_2_2 19 rfl rfl)
theorem dJ9_init_2_70 : decode cJ9_init_2 70 = .ok (.iload 4, 2) := dk_21 4 (dk_at dksJ9_init_2_2 22 rfl rfl)
theorem dJ9_init_2_72 : decode cJ9_init_2 72 = .ok (.invokestatic 47, 3) := dk_184 0 47 (dk_at dksJ9_init_2_3 0 rfl rfl)
theorem dJ9_init_2_75 : decode cJ9_init_2 75 = .ok (.putfield 15, 3) := dk_181 0 15 (dk_at dksJ9_init_2_3 3 rfl rfl)
theorem dJ9_init_2_78 : decode cJ9_init_2 78 = .ok (.return_, 1) := dk_177 (dk_at dksJ9_init_2_3 6 rfl rfl)
theorem dJ9_init_2_79 : decode cJ9_init_2 79 = .ok (.aload_n 0, 1) := dk_42 (dk_at dksJ9_init_2_3 7 rfl rfl)
theorem dJ9_init_2_80 : decode cJ9_init_2 80 = .ok (.iconst 1, 1) := dk_4 (dk_at dksJ9_init_2_3 8 rfl rfl)
theorem dJ9_init_2_81 : decode cJ9_init_2 81 = .ok (.putfield 15, 3) := dk_181 0 15 (dk_at dksJ9_init_2_3 9 rfl rfl)
theorem dJ9_init_2_84 : decode cJ9_init_2 84 = .ok (.aload_n 0, 1) := dk_42 (dk_at dksJ9_init_2_3 12 rfl rfl)
theorem dJ9_init_2_85 : decode cJ9_init_2 85 = .ok (.aload_n 3, 1) := dk_45 (dk_at dksJ9_init_2_3 13 rfl rfl)
theorem dJ9_init_2_86 : decode cJ9_init_2 86 = .ok (.iconst 0, 1) := dk_3 (dk_at dksJ9_init_2_3 14 rfl rfl)
theorem dJ9_init_2_87 : decode cJ9_init_2 87 = .ok (.iload 4, 2) := dk_21 4 (dk_at dksJ9_init_2_3 15 rfl rfl)
theorem dJ9_init_2_89 : decode cJ9_init_2 89 = .ok (.iconst 1, 1) := dk_4 (dk_at dksJ9_init_2_3 17 rfl rfl)
theorem dJ9_init_2_90 : decode cJ9_init_2 90 = .ok (.ishl, 1) := dk_120 (dk_at dksJ9_init_2_3 18 rfl rfl)
theorem dJ9_init_2_91 : decode cJ9_init_2 91 = .ok (.invokestatic 54, 3) := dk_184 0 54 (dk_at dksJ9_init_2_3 19 rfl rfl)
theorem dJ9_init_2_94 : decode cJ9_init_2 94 = .ok (.putfield 9, 3) := dk_181 0 9 (dk_at dksJ9_init_2_4 0 rfl rfl)
theorem dJ9_init_2_97 : decode cJ9_init_2 97 = .ok (.return_, 1) := dk_177 (dk_at dksJ9_init_2_4 3 rfl rfl)
abbrev cJ9_checkIndex : ByteArray := prog_46_method_155_code
def yJ9_checkIndex : MethodName := ⟨RJ9, "checkIndex", "(II)V"⟩
def dkwJ9_checkIndex_0 : List UInt8 := [26, 27, 178, 4, 29, 184, 4, 35, 87, 177]
abbrev dktJ9_checkIndex_0 : List UInt8 := dkwJ9_checkIndex_0 ++ []
theorem dksJ9_checkIndex_0 : cJ9_checkIndex.data.toList.drop 0 = dktJ9_checkIndex_0 := by decide +kernel
theorem dJ9_checkIndex_0 : decode cJ9_checkIndex 0 = .ok (.iload_n 0, 1) := dk_26 (dk_at dksJ9_checkIndex_0 0 rfl rfl)
theorem dJ9_checkIndex_1 : decode cJ9_checkIndex 1 = .ok (.iload_n 1, 1) := dk_27 (dk_at dksJ9_checkIndex_0 1 rfl rfl)
theorem dJ9_checkIndex_2 : decode cJ9_checkIndex 2 = .ok (.getstatic 1053, 3) := dk_178 4 29 (dk_at dksJ9_checkIndex_0 2 rfl rfl)
theorem dJ9_checkIndex_5 : decode cJ9_checkIndex 5 = .ok (.invokestatic 1059, 3) := dk_184 4 35 (dk_at dksJ9_checkIndex_0 5 rfl rfl)
theorem dJ9_checkIndex_8 : decode cJ9_checkIndex 8 = .ok (.pop, 1) := dk_87 (dk_at dksJ9_checkIndex_0 8 rfl rfl)
theorem dJ9_checkIndex_9 : decode cJ9_checkIndex 9 = .ok (.return_, 1) := dk_177 (dk_at dksJ9_checkIndex_0 9 rfl rfl)
abbrev cJ9_equals : ByteArray := prog_46_method_66_code
def yJ9_equals : MethodName := ⟨RJ9, "equals", "(Ljava/lang/Object;)Z"⟩
def dkwJ9_equals_2 : List UInt8 := [184, 2, 29, 153, 0, 7, 4, 167, 0, 4, 3, 172]
abbrev dktJ9_equals_2 : List UInt8 := dkwJ9_equals_2 ++ []
def dkwJ9_equals_1 : List UInt8 := [153, 0, 14, 42, 180, 0, 15, 44, 180, 0, 15, 160, 0, 21, 42, 180, 0, 9, 44, 180, 0, 9]
abbrev dktJ9_equals_1 : List UInt8 := dkwJ9_equals_1 ++ dktJ9_equals_2
def dkwJ9_equals_0 : List UInt8 := [42, 43, 166, 0, 5, 4, 172, 43, 193, 0, 10, 153, 0, 43, 43, 192, 0, 10, 77, 178, 0, 38]
abbrev dktJ9_equals_0 : List UInt8 := dkwJ9_equals_0 ++ dktJ9_equals_1
theorem dksJ9_equals_0 : cJ9_equals.data.toList.drop 0 = dktJ9_equals_0 := by decide +kernel
theorem dksJ9_equals_1 : cJ9_equals.data.toList.drop 22 = dktJ9_equals_1 := dk_seg dksJ9_equals_0 22 rfl rfl
theorem dksJ9_equals_2 : cJ9_equals.data.toList.drop 44 = dktJ9_equals_2 := dk_seg dksJ9_equals_1 22 rfl rfl
theorem dJ9_equals_0 : decode cJ9_equals 0 = .ok (.aload_n 0, 1) := dk_42 (dk_at dksJ9_equals_0 0 rfl rfl)
theorem dJ9_equals_1 : decode cJ9_equals 1 = .ok (.aload_n 1, 1) := dk_43 (dk_at dksJ9_equals_0 1 rfl rfl)
theorem dJ9_equals_2 : decode cJ9_equals 2 = .ok (.if_acmp .ne 5, 3) := dk_166 0 5 (dk_at dksJ9_equals_0 2 rfl rfl)
theorem dJ9_equals_5 : decode cJ9_equals 5 = .ok (.iconst 1, 1) := dk_4 (dk_at dksJ9_equals_0 5 rfl rfl)
theorem dJ9_equals_6 : decode cJ9_equals 6 = .ok (.ireturn, 1) := dk_172 (dk_at dksJ9_equals_0 6 rfl rfl)
theorem dJ9_equals_7 : decode cJ9_equals 7 = .ok (.aload_n 1, 1) := dk_43 (dk_at dksJ9_equals_0 7 rfl rfl)
theorem dJ9_equals_8 : decode cJ9_equals 8 = .ok (.instanceof 10, 3) := dk_193 0 10 (dk_at dksJ9_equals_0 8 rfl rfl)
theorem dJ9_equals_11 : decode cJ9_equals 11 = .ok (.ifCond .eq 43, 3) := dk_153 0 43 (dk_at dksJ9_equals_0 11 rfl rfl)
theorem dJ9_equals_14 : decode cJ9_equals 14 = .ok (.aload_n 1, 1) := dk_43 (dk_at dksJ9_equals_0 14 rfl rfl)
theorem dJ9_equals_15 : decode cJ9_equals 15 = .ok (.checkcast 10, 3) := dk_192 0 10 (dk_at dksJ9_equals_0 15 rfl rfl)
theorem dJ9_equals_18 : decode cJ9_equals 18 = .ok (.astore_n 2, 1) := dk_77 (dk_at dksJ9_equals_0 18 rfl rfl)
theorem dJ9_equals_19 : decode cJ9_equals 19 = .ok (.getstatic 38, 3) := dk_178 0 38 (dk_at dksJ9_equals_0 19 rfl rfl)
theorem dJ9_equals_22 : decode cJ9_equals 22 = .ok (.ifCond .eq 14, 3) := dk_153 0 14 (dk_at dksJ9_equals_1 0 rfl rfl)
theorem dJ9_equals_25 : decode cJ9_equals 25 = .ok (.aload_n 0, 1) := dk_42 (dk_at dksJ9_equals_1 3 rfl rfl)
theorem dJ9_equals_26 : decode cJ9_equals 26 = .ok (.getfield 15, 3) := dk_180 0 15 (dk_at dksJ9_equals_1 4 rfl rfl)
theorem dJ9_equals_29 : decode cJ9_equals 29 = .ok (.aload_n 2, 1) := dk_44 (dk_at dksJ9_equals_1 7 rfl rfl)
theorem dJ9_equals_30 : decode cJ9_equals 30 = .ok (.getfield 15, 3) := dk_180 0 15 (dk_at dksJ9_equals_1 8 rfl rfl)
theorem dJ9_equals_33 : decode cJ9_equals 33 = .ok (.if_icmp .ne 21, 3) := dk_160 0 21 (dk_at dksJ9_equals_1 11 rfl rfl)
theorem dJ9_equals_36 : decode cJ9_equals 36 = .ok (.aload_n 0, 1) := dk_42 (dk_at dksJ9_equals_1 14 rfl rfl)
theorem dJ9_equals_37 : decode cJ9_equals 37 = .ok (.getfield 9, 3) := dk_180 0 9 (dk_at dksJ9_equals_1 15 rfl rfl)
theorem dJ9_equals_40 : decode cJ9_equals 40 = .ok (.aload_n 2, 1) := dk_44 (dk_at dksJ9_equals_1 18 rfl rfl)
theorem dJ9_equals_41 : decode cJ9_equals 41 = .ok (.getfield 9, 3) := dk_180 0 9 (dk_at dksJ9_equals_1 19 rfl rfl)
theorem dJ9_equals_44 : decode cJ9_equals 44 = .ok (.invokestatic 541, 3) := dk_184 2 29 (dk_at dksJ9_equals_2 0 rfl rfl)
theorem dJ9_equals_47 : decode cJ9_equals 47 = .ok (.ifCond .eq 7, 3) := dk_153 0 7 (dk_at dksJ9_equals_2 3 rfl rfl)
theorem dJ9_equals_50 : decode cJ9_equals 50 = .ok (.iconst 1, 1) := dk_4 (dk_at dksJ9_equals_2 6 rfl rfl)
theorem dJ9_equals_51 : decode cJ9_equals 51 = .ok (.goto 4, 3) := dk_167 0 4 (dk_at dksJ9_equals_2 7 rfl rfl)
theorem dJ9_equals_54 : decode cJ9_equals 54 = .ok (.iconst 0, 1) := dk_3 (dk_at dksJ9_equals_2 10 rfl rfl)
theorem dJ9_equals_55 : decode cJ9_equals 55 = .ok (.ireturn, 1) := dk_172 (dk_at dksJ9_equals_2 11 rfl rfl)
abbrev cJ9_compareTo : ByteArray := prog_46_method_162_code
def yJ9_compareTo : MethodName := ⟨RJ9, "compareTo", "(Ljava/lang/Object;)I"⟩
def dkwJ9_compareTo_0 : List UInt8 := [42, 43, 192, 0, 10, 182, 4, 60, 172]
abbrev dktJ9_compareTo_0 : List UInt8 := dkwJ9_compareTo_0 ++ []
theorem dksJ9_compareTo_0 : cJ9_compareTo.data.toList.drop 0 = dktJ9_compareTo_0 := by decide +kernel
theorem dJ9_compareTo_0 : decode cJ9_compareTo 0 = .ok (.aload_n 0, 1) := dk_42 (dk_at dksJ9_compareTo_0 0 rfl rfl)
theorem dJ9_compareTo_1 : decode cJ9_compareTo 1 = .ok (.aload_n 1, 1) := dk_43 (dk_at dksJ9_compareTo_0 1 rfl rfl)
theorem dJ9_compareTo_2 : decode cJ9_compareTo 2 = .ok (.checkcast 10, 3) := dk_192 0 10 (dk_at dksJ9_compareTo_0 2 rfl rfl)
theorem dJ9_compareTo_5 : decode cJ9_compareTo 5 = .ok (.invokevirtual 1084, 3) := dk_182 4 60 (dk_at dksJ9_compareTo_0 5 rfl rfl)
theorem dJ9_compareTo_8 : decode cJ9_compareTo 8 = .ok (.ireturn, 1) := dk_172 (dk_at dksJ9_compareTo_0 8 rfl rfl)
abbrev cJ9_compareTo_2 : ByteArray := prog_46_method_71_code
def yJ9_compareTo_2 : MethodName := ⟨RJ9, "compareTo", "(Ljava/lang/String;)I"⟩
def dkwJ9_compareTo_2_2 : List UInt8 := [154, 0, 11, 44, 45, 184, 2, 79, 167, 0, 8, 44, 45, 184, 2, 82, 172]
abbrev dktJ9_compareTo_2_2 : List UInt8 := dkwJ9_compareTo_2_2 ++ []
def dkwJ9_compareTo_2_1 : List UInt8 := [160, 0, 22, 21, 4, 154, 0, 11, 44, 45, 184, 2, 74, 167, 0, 8, 44, 45, 184, 2, 78, 172, 21, 4]
abbrev dktJ9_compareTo_2_1 : List UInt8 := dkwJ9_compareTo_2_1 ++ dktJ9_compareTo_2_2
def dkwJ9_compareTo_2_0 : List UInt8 := [42, 180, 0, 9, 77, 43, 180, 0, 9, 78, 42, 182, 1, 79, 54, 4, 21, 4, 43, 182, 1, 79]
abbrev dktJ9_compareTo_2_0 : List UInt8 := dkwJ9_compareTo_2_0 ++ dktJ9_compareTo_2_1
theorem dksJ9_compareTo_2_0 : cJ9_compareTo_2.data.toList.drop 0 = dktJ9_compareTo_2_0 := by decide +kernel
theorem dksJ9_compareTo_2_1 : cJ9_compareTo_2.data.toList.drop 22 = dktJ9_compareTo_2_1 := dk_seg dksJ9_compareTo_2_0 22 rfl rfl
theorem dksJ9_compareTo_2_2 : cJ9_compareTo_2.data.toList.drop 46 = dktJ9_compareTo_2_2 := dk_seg dksJ9_compareTo_2_1 24 rfl rfl
theorem dJ9_compareTo_2_0 : decode cJ9_compareTo_2 0 = .ok (.aload_n 0, 1) := dk_42 (dk_at dksJ9_compareTo_2_0 0 rfl rfl)
theorem dJ9_compareTo_2_1 : decode cJ9_compareTo_2 1 = .ok (.getfield 9, 3) := dk_180 0 9 (dk_at dksJ9_compareTo_2_0 1 rfl rfl)
theorem dJ9_compareTo_2_4 : decode cJ9_compareTo_2 4 = .ok (.astore_n 2, 1) := dk_77 (dk_at dksJ9_compareTo_2_0 4 rfl rfl)
theorem dJ9_compareTo_2_5 : decode cJ9_compareTo_2 5 = .ok (.aload_n 1, 1) := dk_43 (dk_at dksJ9_compareTo_2_0 5 rfl rfl)
theorem dJ9_compareTo_2_6 : decode cJ9_compareTo_2 6 = .ok (.getfield 9, 3) := dk_180 0 9 (dk_at dksJ9_compareTo_2_0 6 rfl rfl)
theorem dJ9_compareTo_2_9 : decode cJ9_compareTo_2 9 = .ok (.astore_n 3, 1) := dk_78 (dk_at dksJ9_compareTo_2_0 9 rfl rfl)
theorem dJ9_compareTo_2_10 : decode cJ9_compareTo_2 10 = .ok (.aload_n 0, 1) := dk_42 (dk_at dksJ9_compareTo_2_0 10 rfl rfl)
theorem dJ9_compareTo_2_11 : decode cJ9_compareTo_2 11 = .ok (.invokevirtual 335, 3) := dk_182 1 79 (dk_at dksJ9_compareTo_2_0 11 rfl rfl)
theorem dJ9_compareTo_2_14 : decode cJ9_compareTo_2 14 = .ok (.istore 4, 2) := dk_54 4 (dk_at dksJ9_compareTo_2_0 14 rfl rfl)
theorem dJ9_compareTo_2_16 : decode cJ9_compareTo_2 16 = .ok (.iload 4, 2) := dk_21 4 (dk_at dksJ9_compareTo_2_0 16 rfl rfl)
theorem dJ9_compareTo_2_18 : decode cJ9_compareTo_2 18 = .ok (.aload_n 1, 1) := dk_43 (dk_at dksJ9_compareTo_2_0 18 rfl rfl)
theorem dJ9_compareTo_2_19 : decode cJ9_compareTo_2 19 = .ok (.invokevirtual 335, 3) := dk_182 1 79 (dk_at dksJ9_compareTo_2_0 19 rfl rfl)
theorem dJ9_compareTo_2_22 : decode cJ9_compareTo_2 22 = .ok (.if_icmp .ne 22, 3) := dk_160 0 22 (dk_at dksJ9_compareTo_2_1 0 rfl rfl)
theorem dJ9_compareTo_2_25 : decode cJ9_compareTo_2 25 = .ok (.iload 4, 2) := dk_21 4 (dk_at dksJ9_compareTo_2_1 3 rfl rfl)
theorem dJ9_compareTo_2_27 : decode cJ9_compareTo_2 27 = .ok (.ifCond .ne 11, 3) := dk_154 0 11 (dk_at dksJ9_compareTo_2_1 5 rfl rfl)
theorem dJ9_compareTo_2_30 : decode cJ9_compareTo_2 30 = .ok (.aload_n 2, 1) := dk_44 (dk_at dksJ9_compareTo_2_1 8 rfl rfl)
theorem dJ9_compareTo_2_31 : decode cJ9_compareTo_2 31 = .ok (.aload_n 3, 1) := dk_45 (dk_at dksJ9_compareTo_2_1 9 rfl rfl)
theorem dJ9_compareTo_2_32 : decode cJ9_compareTo_2 32 = .ok (.invokestatic 586, 3) := dk_184 2 74 (dk_at dksJ9_compareTo_2_1 10 rfl rfl)
theorem dJ9_compareTo_2_35 : decode cJ9_compareTo_2 35 = .ok (.goto 8, 3) := dk_167 0 8 (dk_at dksJ9_compareTo_2_1 13 rfl rfl)
theorem dJ9_compareTo_2_38 : decode cJ9_compareTo_2 38 = .ok (.aload_n 2, 1) := dk_44 (dk_at dksJ9_compareTo_2_1 16 rfl rfl)
theorem dJ9_compareTo_2_39 : decode cJ9_compareTo_2 39 = .ok (.aload_n 3, 1) := dk_45 (dk_at dksJ9_compareTo_2_1 17 rfl rfl)
theorem dJ9_compareTo_2_40 : decode cJ9_compareTo_2 40 = .ok (.invokestatic 590, 3) := dk_184 2 78 (dk_at dksJ9_compareTo_2_1 18 rfl rfl)
theorem dJ9_compareTo_2_43 : decode cJ9_compareTo_2 43 = .ok (.ireturn, 1) := dk_172 (dk_at dksJ9_compareTo_2_1 21 rfl rfl)
theorem dJ9_compareTo_2_44 : decode cJ9_compareTo_2 44 = .ok (.iload 4, 2) := dk_21 4 (dk_at dksJ9_compareTo_2_1 22 rfl rfl)
theorem dJ9_compareTo_2_46 : decode cJ9_compareTo_2 46 = .ok (.ifCond .ne 11, 3) := dk_154 0 11 (dk_at dksJ9_compareTo_2_2 0 rfl rfl)
theorem dJ9_compareTo_2_49 : decode cJ9_compareTo_2 49 = .ok (.aload_n 2, 1) := dk_44 (dk_at dksJ9_compareTo_2_2 3 rfl rfl)
theorem dJ9_compareTo_2_50 : decode cJ9_compareTo_2 50 = .ok (.aload_n 3, 1) := dk_45 (dk_at dksJ9_compareTo_2_2 4 rfl rfl)
theorem dJ9_compareTo_2_51 : decode cJ9_compareTo_2 51 = .ok (.invokestatic 591, 3) := dk_184 2 79 (dk_at dksJ9_compareTo_2_2 5 rfl rfl)
theorem dJ9_compareTo_2_54 : decode cJ9_compareTo_2 54 = .ok (.goto 8, 3) := dk_167 0 8 (dk_at dksJ9_compareTo_2_2 8 rfl rfl)
theorem dJ9_compareTo_2_57 : decode cJ9_compareTo_2 57 = .ok (.aload_n 2, 1) := dk_44 (dk_at dksJ9_compareTo_2_2 11 rfl rfl)
theorem dJ9_compareTo_2_58 : decode cJ9_compareTo_2 58 = .ok (.aload_n 3, 1) := dk_45 (dk_at dksJ9_compareTo_2_2 12 rfl rfl)
theorem dJ9_compareTo_2_59 : decode cJ9_compareTo_2 59 = .ok (.invokestatic 594, 3) := dk_184 2 82 (dk_at dksJ9_compareTo_2_2 13 rfl rfl)
theorem dJ9_compareTo_2_62 : decode cJ9_compareTo_2 62 = .ok (.ireturn, 1) := dk_172 (dk_at dksJ9_compareTo_2_2 16 rfl rfl)
abbrev cJ9_checkOffset : ByteArray := prog_46_method_156_code
def yJ9_checkOffset : MethodName := ⟨RJ9, "checkOffset", "(II)V"⟩
def dkwJ9_checkOffset_0 : List UInt8 := [26, 27, 27, 178, 4, 29, 184, 4, 38, 87, 177]
abbrev dktJ9_checkOffset_0 : List UInt8 := dkwJ9_checkOffset_0 ++ []
theorem dksJ9_checkOffset_0 : cJ9_checkOffset.data.toList.drop 0 = dktJ9_checkOffset_0 := by decide +kernel
theorem dJ9_checkOffset_0 : decode cJ9_checkOffset 0 = .ok (.iload_n 0, 1) := dk_26 (dk_at dksJ9_checkOffset_0 0 rfl rfl)
theorem dJ9_checkOffset_1 : decode cJ9_checkOffset 1 = .ok (.iload_n 1, 1) := dk_27 (dk_at dksJ9_checkOffset_0 1 rfl rfl)
theorem dJ9_checkOffset_2 : decode cJ9_checkOffset 2 = .ok (.iload_n 1, 1) := dk_27 (dk_at dksJ9_checkOffset_0 2 rfl rfl)
theorem dJ9_checkOffset_3 : decode cJ9_checkOffset 3 = .ok (.getstatic 1053, 3) := dk_178 4 29 (dk_at dksJ9_checkOffset_0 3 rfl rfl)
theorem dJ9_checkOffset_6 : decode cJ9_checkOffset 6 = .ok (.invokestatic 1062, 3) := dk_184 4 38 (dk_at dksJ9_checkOffset_0 6 rfl rfl)
theorem dJ9_checkOffset_9 : decode cJ9_checkOffset 9 = .ok (.pop, 1) := dk_87 (dk_at dksJ9_checkOffset_0 9 rfl rfl)
theorem dJ9_checkOffset_10 : decode cJ9_checkOffset 10 = .ok (.return_, 1) := dk_177 (dk_at dksJ9_checkOffset_0 10 rfl rfl)
abbrev cJ9_charAt : ByteArray := prog_46_method_56_code
def yJ9_charAt : MethodName := ⟨RJ9, "charAt", "(I)C"⟩
def dkwJ9_charAt_1 : List UInt8 := [172]
abbrev dktJ9_charAt_1 : List UInt8 := dkwJ9_charAt_1 ++ []
def dkwJ9_charAt_0 : List UInt8 := [42, 182, 1, 236, 153, 0, 12, 42, 180, 0, 9, 27, 184, 1, 239, 172, 42, 180, 0, 9, 27, 184, 1, 242]
abbrev dktJ9_charAt_0 : List UInt8 := dkwJ9_charAt_0 ++ dktJ9_charAt_1
theorem dksJ9_charAt_0 : cJ9_charAt.data.toList.drop 0 = dktJ9_charAt_0 := by decide +kernel
theorem dksJ9_charAt_1 : cJ9_charAt.data.toList.drop 24 = dktJ9_charAt_1 := dk_seg dksJ9_charAt_0 24 rfl rfl
theorem dJ9_charAt_0 : decode cJ9_charAt 0 = .ok (.aload_n 0, 1) := dk_42 (dk_at dksJ9_charAt_0 0 rfl rfl)
theorem dJ9_charAt_1 : decode cJ9_charAt 1 = .ok (.invokevirtual 492, 3) := dk_182 1 236 (dk_at dksJ9_charAt_0 1 rfl rfl)
theorem dJ9_charAt_4 : decode cJ9_charAt 4 = .ok (.ifCond .eq 12, 3) := dk_153 0 12 (dk_at dksJ9_charAt_0 4 rfl rfl)
theorem dJ9_charAt_7 : decode cJ9_charAt 7 = .ok (.aload_n 0, 1) := dk_42 (dk_at dksJ9_charAt_0 7 rfl rfl)
theorem dJ9_charAt_8 : decode cJ9_charAt 8 = .ok (.getfield 9, 3) := dk_180 0 9 (dk_at dksJ9_charAt_0 8 rfl rfl)
theorem dJ9_charAt_11 : decode cJ9_charAt 11 = .ok (.iload_n 1, 1) := dk_27 (dk_at dksJ9_charAt_0 11 rfl rfl)
theorem dJ9_charAt_12 : decode cJ9_charAt 12 = .ok (.invokestatic 495, 3) := dk_184 1 239 (dk_at dksJ9_charAt_0 12 rfl rfl)
theorem dJ9_charAt_15 : decode cJ9_charAt 15 = .ok (.ireturn, 1) := dk_172 (dk_at dksJ9_charAt_0 15 rfl rfl)
theorem dJ9_charAt_16 : decode cJ9_charAt 16 = .ok (.aload_n 0, 1) := dk_42 (dk_at dksJ9_charAt_0 16 rfl rfl)
theorem dJ9_charAt_17 : decode cJ9_charAt 17 = .ok (.getfield 9, 3) := dk_180 0 9 (dk_at dksJ9_charAt_0 17 rfl rfl)
theorem dJ9_charAt_20 : decode cJ9_charAt 20 = .ok (.iload_n 1, 1) := dk_27 (dk_at dksJ9_charAt_0 20 rfl rfl)
theorem dJ9_charAt_21 : decode cJ9_charAt 21 = .ok (.invokestatic 498, 3) := dk_184 1 242 (dk_at dksJ9_charAt_0 21 rfl rfl)
theorem dJ9_charAt_24 : decode cJ9_charAt 24 = .ok (.ireturn, 1) := dk_172 (dk_at dksJ9_charAt_1 0 rfl rfl)
abbrev cJ9_isLatin1 : ByteArray := prog_46_method_154_code
def yJ9_isLatin1 : MethodName := ⟨RJ9, "isLatin1", "()Z"⟩
def dkwJ9_isLatin1_0 : List UInt8 := [178, 0, 38, 153, 0, 14, 42, 180, 0, 15, 154, 0, 7, 4, 167, 0, 4, 3, 172]
abbrev dktJ9_isLatin1_0 : List UInt8 := dkwJ9_isLatin1_0 ++ []
theorem dksJ9_isLatin1_0 : cJ9_isLatin1.data.toList.drop 0 = dktJ9_isLatin1_0 := by decide +kernel
theorem dJ9_isLatin1_0 : decode cJ9_isLatin1 0 = .ok (.getstatic 38, 3) := dk_178 0 38 (dk_at dksJ9_isLatin1_0 0 rfl rfl)
theorem dJ9_isLatin1_3 : decode cJ9_isLatin1 3 = .ok (.ifCond .eq 14, 3) := dk_153 0 14 (dk_at dksJ9_isLatin1_0 3 rfl rfl)
theorem dJ9_isLatin1_6 : decode cJ9_isLatin1 6 = .ok (.aload_n 0, 1) := dk_42 (dk_at dksJ9_isLatin1_0 6 rfl rfl)
theorem dJ9_isLatin1_7 : decode cJ9_isLatin1 7 = .ok (.getfield 15, 3) := dk_180 0 15 (dk_at dksJ9_isLatin1_0 7 rfl rfl)
theorem dJ9_isLatin1_10 : decode cJ9_isLatin1 10 = .ok (.ifCond .ne 7, 3) := dk_154 0 7 (dk_at dksJ9_isLatin1_0 10 rfl rfl)
theorem dJ9_isLatin1_13 : decode cJ9_isLatin1 13 = .ok (.iconst 1, 1) := dk_4 (dk_at dksJ9_isLatin1_0 13 rfl rfl)
theorem dJ9_isLatin1_14 : decode cJ9_isLatin1 14 = .ok (.goto 4, 3) := dk_167 0 4 (dk_at dksJ9_isLatin1_0 14 rfl rfl)
theorem dJ9_isLatin1_17 : decode cJ9_isLatin1 17 = .ok (.iconst 0, 1) := dk_3 (dk_at dksJ9_isLatin1_0 17 rfl rfl)
theorem dJ9_isLatin1_18 : decode cJ9_isLatin1 18 = .ok (.ireturn, 1) := dk_172 (dk_at dksJ9_isLatin1_0 18 rfl rfl)
theorem q110 : (Jvm.Cond.initialized "java/lang/String") ∈ lw_all := lw_g (lw_at lw_m1 14 rfl) rfl
theorem q386 : (Jvm.Cond.instantiable "java/lang/String" (4 : Nat)) ∈ lw_all := lw_g (lw_at lw_m2 50 rfl) rfl
theorem q388 : (Jvm.Cond.laysFinal "java/lang/String" "java/lang/String" "value" "[B") ∈ lw_all := lw_g (lw_at lw_m2 52 rfl) rfl
theorem q389 : (Jvm.Cond.soleField "java/lang/String" "value") ∈ lw_all := lw_g (lw_at lw_m2 53 rfl) rfl
theorem q390 : (Jvm.Cond.laysFinal "java/lang/String" "java/lang/String" "coder" "B") ∈ lw_all := lw_g (lw_at lw_m2 54 rfl) rfl
theorem q391 : (Jvm.Cond.soleField "java/lang/String" "coder") ∈ lw_all := lw_g (lw_at lw_m2 55 rfl) rfl
theorem q615 : (Jvm.Cond.laysStatic "java/lang/String" "COMPACT_STRINGS" "Z") ∈ lw_tbl := lw_at lw_m3 39 rfl
theorem q630 : (Jvm.Cond.fieldLink "java/lang/String" (1048 : Nat) "java/lang/AbstractStringBuilder" "maybeLatin1" "Z") ∈ lw_all := lw_g (lw_at lw_m3 54 rfl) rfl
theorem q701 : (Jvm.Cond.static ({ cls := "java/lang/String", name := "checkBoundsBeginEnd", desc := "(III)V" } : Jvm.MethodName)) ∈ lw_all := lw_g (lw_at lw_m3 125 rfl) rfl
theorem q702 : (Jvm.Cond.code ({ cls := "java/lang/String", name := "checkBoundsBeginEnd", desc := "(III)V" } : Jvm.MethodName) prog_46_method_158_code (3 : Nat) (Option.none : Option Jvm.ClassFile.FieldType)) ∈ lw_all := lw_g (lw_at lw_m3 126 rfl) rfl
theorem q703 : (Jvm.Cond.fieldLink "java/lang/String" (1053 : Nat) "jdk/internal/util/Preconditions" "SIOOBE_FORMATTER" "Ljava/util/function/BiFunction;") ∈ lw_all := lw_g (lw_at lw_m3 127 rfl) rfl
theorem q705 : (Jvm.Cond.methodLink "java/lang/String" (1062 : Nat) ({ cls := "jdk/internal/util/Preconditions", name := "checkFromToIndex", desc := "(IIILjava/util/function/BiFunction;)I" } : Jvm.MethodName)) ∈ lw_all := lw_g (lw_at lw_m3 129 rfl) rfl
theorem q718 : (Jvm.Cond.instanceMethod ({ cls := "java/lang/String", name := "length", desc := "()I" } : Jvm.MethodName)) ∈ lw_all := lw_g (lw_at lw_m3 142 rfl) rfl
theorem q719 : (Jvm.Cond.selects "java/lang/String" ({ cls := "java/lang/String", name := "length", desc := "()I" } : Jvm.MethodName) ({ cls := "java/lang/String", name := "length", desc := "()I" } : Jvm.MethodName)) ∈ lw_all := lw_g (lw_at lw_m3 143 rfl) rfl
theorem q720 : (Jvm.Cond.code ({ cls := "java/lang/String", name := "length", desc := "()I" } : Jvm.MethodName) prog_46_method_54_code (1 : Nat) (Option.some Jvm.ClassFile.FieldType.int)) ∈ lw_all := lw_g (lw_at lw_m3 144 rfl) rfl
theorem q721 : (Jvm.Cond.methodLink "java/lang/String" (335 : Nat) ({ cls := "java/lang/String", name := "coder", desc := "()B" } : Jvm.MethodName)) ∈ lw_all := lw_g (lw_at lw_m3 145 rfl) rfl
theorem q722 : (Jvm.Cond.instanceMethod ({ cls := "java/lang/String", name := "coder", desc := "()B" } : Jvm.MethodName)) ∈ lw_all := lw_g (lw_at lw_m3 146 rfl) rfl
theorem q723 : (Jvm.Cond.selects "java/lang/String" ({ cls := "java/lang/String", name := "coder", desc := "()B" } : Jvm.MethodName) ({ cls := "java/lang/String", name := "coder", desc := "()B" } : Jvm.MethodName)) ∈ lw_all := lw_g (lw_at lw_m3 147 rfl) rfl
theorem q724 : (Jvm.Cond.code ({ cls := "java/lang/String", name := "coder", desc := "()B" } : Jvm.MethodName) prog_46_method_152_code (1 : Nat) (Option.some Jvm.ClassFile.FieldType.byte)) ∈ lw_all := lw_g (lw_at lw_m3 148 rfl) rfl
theorem q725 : (Jvm.Cond.fieldLink "java/lang/String" (38 : Nat) "java/lang/String" "COMPACT_STRINGS" "Z") ∈ lw_all := lw_g (lw_at lw_m3 149 rfl) rfl
theorem q749 : (Jvm.Cond.static ({ cls := "java/lang/String", name := "checkBoundsOffCount", desc := "(III)I" } : Jvm.MethodName)) ∈ lw_all := lw_g (lw_at lw_m3 173 rfl) rfl
theorem q750 : (Jvm.Cond.code ({ cls := "java/lang/String", name := "checkBoundsOffCount", desc := "(III)I" } : Jvm.MethodName) prog_46_method_157_code (3 : Nat) (Option.some Jvm.ClassFile.FieldType.int)) ∈ lw_all := lw_g (lw_at lw_m3 174 rfl) rfl
theorem q751 : (Jvm.Cond.methodLink "java/lang/String" (1065 : Nat) ({ cls := "jdk/internal/util/Preconditions", name := "checkFromIndexSize", desc := "(IIILjava/util/function/BiFunction;)I" } : Jvm.MethodName)) ∈ lw_all := lw_g (lw_at lw_m3 175 rfl) rfl
theorem q755 : (Jvm.Cond.instanceMethod ({ cls := "java/lang/String", name := "getBytes", desc := "([BIB)V" } : Jvm.MethodName)) ∈ lw_all := lw_g (lw_at lw_m3 179 rfl) rfl
theorem q756 : (Jvm.Cond.selects "java/lang/String" ({ cls := "java/lang/String", name := "getBytes", desc := "([BIB)V" } : Jvm.MethodName) ({ cls := "java/lang/String", name := "getBytes", desc := "([BIB)V" } : Jvm.MethodName)) ∈ lw_all := lw_g (lw_at lw_m3 180 rfl) rfl
theorem q757 : (Jvm.Cond.code ({ cls := "java/lang/String", name := "getBytes", desc := "([BIB)V" } : Jvm.MethodName) prog_46_method_147_code (4 : Nat) (Option.none : Option Jvm.ClassFile.FieldType)) ∈ lw_all := lw_g (lw_at lw_m3 181 rfl) rfl
theorem q758 : (Jvm.Cond.methodLink "java/lang/String" (212 : Nat) ({ cls := "java/lang/System", name := "arraycopy", desc := "(Ljava/lang/Object;ILjava/lang/Object;II)V" } : Jvm.MethodName)) ∈ lw_all := lw_g (lw_at lw_m3 182 rfl) rfl
theorem q759 : (Jvm.Cond.methodLink "java/lang/String" (106 : Nat) ({ cls := "java/lang/StringLatin1", name := "inflate", desc := "([BI[BII)V" } : Jvm.MethodName)) ∈ lw_all := lw_g (lw_at lw_m3 183 rfl) rfl
theorem q792 : (Jvm.Cond.instanceMethod ({ cls := "java/lang/String", name := "<init>", desc := "(Ljava/lang/StringBuilder;)V" } : Jvm.MethodName)) ∈ lw_all := lw_g (lw_at lw_m3 216 rfl) rfl
theorem q793 : (Jvm.Cond.code ({ cls := "java/lang/String", name := "<init>", desc := "(Ljava/lang/StringBuilder;)V" } : Jvm.MethodName) prog_46_method_53_code (2 : Nat) (Option.none : Option Jvm.ClassFile.FieldType)) ∈ lw_all := lw_g (lw_at lw_m3 217 rfl) rfl
theorem q794 : (Jvm.Cond.methodLink "java/lang/String" (489 : Nat) ({ cls := "java/lang/String", name := "<init>", desc := "(Ljava/lang/AbstractStringBuilder;Ljava/lang/Void;)V" } : Jvm.MethodName)) ∈ lw_all := lw_g (lw_at lw_m3 218 rfl) rfl
theorem q795 : (Jvm.Cond.instanceMethod ({ cls := "java/lang/String", name := "<init>", desc := "(Ljava/lang/AbstractStringBuilder;Ljava/lang/Void;)V" } : Jvm.MethodName)) ∈ lw_all := lw_g (lw_at lw_m3 219 rfl) rfl
theorem q796 : (Jvm.Cond.code ({ cls := "java/lang/String", name := "<init>", desc := "(Ljava/lang/AbstractStringBuilder;Ljava/lang/Void;)V" } : Jvm.MethodName) prog_46_method_150_code (5 : Nat) (Option.none : Option Jvm.ClassFile.FieldType)) ∈ lw_all := lw_g (lw_at lw_m3 220 rfl) rfl
theorem q797 : (Jvm.Cond.methodLink "java/lang/String" (1 : Nat) ({ cls := "java/lang/Object", name := "<init>", desc := "()V" } : Jvm.MethodName)) ∈ lw_all := lw_g (lw_at lw_m3 221 rfl) rfl
theorem q798 : (Jvm.Cond.methodLink "java/lang/String" (552 : Nat) ({ cls := "java/lang/AbstractStringBuilder", name := "getValue", desc := "()[B" } : Jvm.MethodName)) ∈ lw_all := lw_g (lw_at lw_m3 222 rfl) rfl
theorem q803 : (Jvm.Cond.methodLink "java/lang/String" (549 : Nat) ({ cls := "java/lang/AbstractStringBuilder", name := "length", desc := "()I" } : Jvm.MethodName)) ∈ lw_all := lw_g (lw_at lw_m3 227 rfl) rfl
theorem q811 : (Jvm.Cond.methodLink "java/lang/String" (1047 : Nat) ({ cls := "java/lang/AbstractStringBuilder", name := "isLatin1", desc := "()Z" } : Jvm.MethodName)) ∈ lw_all := lw_g (lw_at lw_m3 235 rfl) rfl
theorem q812 : (Jvm.Cond.methodLink "java/lang/String" (54 : Nat) ({ cls := "java/util/Arrays", name := "copyOfRange", desc := "([BII)[B" } : Jvm.MethodName)) ∈ lw_all := lw_g (lw_at lw_m3 236 rfl) rfl
theorem q821 : (Jvm.Cond.methodLink "java/lang/String" (1051 : Nat) ({ cls := "java/lang/StringUTF16", name := "compress", desc := "([BII)[B" } : Jvm.MethodName)) ∈ lw_all := lw_g (lw_at lw_m4 5 rfl) rfl
theorem q831 : (Jvm.Cond.methodLink "java/lang/String" (47 : Nat) ({ cls := "java/lang/StringUTF16", name := "coderFromArrayLen", desc := "([BI)B" } : Jvm.MethodName)) ∈ lw_all := lw_g (lw_at lw_m4 15 rfl) rfl
theorem q834 : (Jvm.Cond.fieldLink "java/lang/String" (9 : Nat) "java/lang/String" "value" "[B") ∈ lw_all := lw_g (lw_at lw_m4 18 rfl) rfl
theorem q835 : (Jvm.Cond.fieldLink "java/lang/String" (15 : Nat) "java/lang/String" "coder" "B") ∈ lw_all := lw_g (lw_at lw_m4 19 rfl) rfl
theorem q836 : (Jvm.Cond.lays "java/lang/String" "java/lang/String" "hash" "I") ∈ lw_all := lw_g (lw_at lw_m4 20 rfl) rfl
theorem q837 : (Jvm.Cond.soleField "java/lang/String" "hash") ∈ lw_all := lw_g (lw_at lw_m4 21 rfl) rfl
theorem q838 : (Jvm.Cond.lays "java/lang/String" "java/lang/String" "hashIsZero" "Z") ∈ lw_all := lw_g (lw_at lw_m4 22 rfl) rfl
theorem q839 : (Jvm.Cond.soleField "java/lang/String" "hashIsZero") ∈ lw_all := lw_g (lw_at lw_m4 23 rfl) rfl
theorem q840 : (Jvm.Cond.superclass "java/lang/String" "java/lang/Object") ∈ lw_all := lw_g (lw_at lw_m4 24 rfl) rfl
theorem q970 : (Jvm.Cond.static ({ cls := "java/lang/String", name := "checkIndex", desc := "(II)V" } : Jvm.MethodName)) ∈ lw_all := lw_g (lw_at lw_m4 154 rfl) rfl
theorem q971 : (Jvm.Cond.code ({ cls := "java/lang/String", name := "checkIndex", desc := "(II)V" } : Jvm.MethodName) prog_46_method_155_code (2 : Nat) (Option.none : Option Jvm.ClassFile.FieldType)) ∈ lw_all := lw_g (lw_at lw_m4 155 rfl) rfl
theorem q972 : (Jvm.Cond.methodLink "java/lang/String" (1059 : Nat) ({ cls := "jdk/internal/util/Preconditions", name := "checkIndex", desc := "(IILjava/util/function/BiFunction;)I" } : Jvm.MethodName)) ∈ lw_all := lw_g (lw_at lw_m4 156 rfl) rfl
theorem q1032 : (Jvm.Cond.instanceMethod ({ cls := "java/lang/String", name := "equals", desc := "(Ljava/lang/Object;)Z" } : Jvm.MethodName)) ∈ lw_all := lw_g (lw_at lw_m4 216 rfl) rfl
theorem q1033 : (Jvm.Cond.selects "java/lang/String" ({ cls := "java/lang/String", name := "equals", desc := "(Ljava/lang/Object;)Z" } : Jvm.MethodName) ({ cls := "java/lang/String", name := "equals", desc := "(Ljava/lang/Object;)Z" } : Jvm.MethodName)) ∈ lw_all := lw_g (lw_at lw_m4 217 rfl) rfl
theorem q1034 : (Jvm.Cond.code ({ cls := "java/lang/String", name := "equals", desc := "(Ljava/lang/Object;)Z" } : Jvm.MethodName) prog_46_method_66_code (3 : Nat) (Option.some Jvm.ClassFile.FieldType.boolean)) ∈ lw_all := lw_g (lw_at lw_m4 218 rfl) rfl
theorem q1035 : (Jvm.Cond.classLink "java/lang/String" (10 : Nat) "java/lang/String") ∈ lw_all := lw_g (lw_at lw_m4 219 rfl) rfl
theorem q1036 : (Jvm.Cond.methodLink "java/lang/String" (541 : Nat) ({ cls := "java/lang/StringLatin1", name := "equals", desc := "([B[B)Z" } : Jvm.MethodName)) ∈ lw_all := lw_g (lw_at lw_m4 220 rfl) rfl
theorem q1088 : (Jvm.Cond.selects "java/lang/String" ({ cls := "java/lang/Object", name := "getClass", desc := "()Ljava/lang/Class;" } : Jvm.MethodName) ({ cls := "java/lang/Object", name := "getClass", desc := "()Ljava/lang/Class;" } : Jvm.MethodName)) ∈ lw_all := lw_g (lw_at lw_m5 32 rfl) rfl
theorem q1839 : (Jvm.Cond.selects "java/lang/String" ({ cls := "java/lang/Object", name := "equals", desc := "(Ljava/lang/Object;)Z" } : Jvm.MethodName) ({ cls := "java/lang/String", name := "equals", desc := "(Ljava/lang/Object;)Z" } : Jvm.MethodName)) ∈ lw_all := lw_g (lw_at lw_m8 63 rfl) rfl
theorem q2195 : (Jvm.Cond.castable "java/lang/String" "java/lang/Comparable") ∈ lw_tbl := lw_at lw_m9 179 rfl
theorem q2196 : (Jvm.Cond.selects "java/lang/String" ({ cls := "java/lang/Comparable", name := "compareTo", desc := "(Ljava/lang/Object;)I" } : Jvm.MethodName) ({ cls := "java/lang/String", name := "compareTo", desc := "(Ljava/lang/Object;)I" } : Jvm.MethodName)) ∈ lw_all := lw_g (lw_at lw_m9 180 rfl) rfl
theorem q2197 : (Jvm.Cond.unhidden "java/lang/String" "compareTo" "(Ljava/lang/Object;)I") ∈ lw_tbl := lw_at lw_m9 181 rfl
theorem q2198 : (Jvm.Cond.instanceMethod ({ cls := "java/lang/String", name := "compareTo", desc := "(Ljava/lang/Object;)I" } : Jvm.MethodName)) ∈ lw_all := lw_g (lw_at lw_m9 182 rfl) rfl
theorem q2199 : (Jvm.Cond.publicMethod ({ cls := "java/lang/String", name := "compareTo", desc := "(Ljava/lang/Object;)I" } : Jvm.MethodName)) ∈ lw_tbl := lw_at lw_m9 183 rfl
theorem q2200 : (Jvm.Cond.code ({ cls := "java/lang/String", name := "compareTo", desc := "(Ljava/lang/Object;)I" } : Jvm.MethodName) prog_46_method_162_code (2 : Nat) (Option.some Jvm.ClassFile.FieldType.int)) ∈ lw_all := lw_g (lw_at lw_m9 184 rfl) rfl
theorem q2201 : (Jvm.Cond.methodLink "java/lang/String" (1084 : Nat) ({ cls := "java/lang/String", name := "compareTo", desc := "(Ljava/lang/String;)I" } : Jvm.MethodName)) ∈ lw_all := lw_g (lw_at lw_m9 185 rfl) rfl
theorem q2202 : (Jvm.Cond.instanceMethod ({ cls := "java/lang/String", name := "compareTo", desc := "(Ljava/lang/String;)I" } : Jvm.MethodName)) ∈ lw_all := lw_g (lw_at lw_m9 186 rfl) rfl
theorem q2203 : (Jvm.Cond.selects "java/lang/String" ({ cls := "java/lang/String", name := "compareTo", desc := "(Ljava/lang/String;)I" } : Jvm.MethodName) ({ cls := "java/lang/String", name := "compareTo", desc := "(Ljava/lang/String;)I" } : Jvm.MethodName)) ∈ lw_all := lw_g (lw_at lw_m9 187 rfl) rfl
theorem q2204 : (Jvm.Cond.code ({ cls := "java/lang/String", name := "compareTo", desc := "(Ljava/lang/String;)I" } : Jvm.MethodName) prog_46_method_71_code (5 : Nat) (Option.some Jvm.ClassFile.FieldType.int)) ∈ lw_all := lw_g (lw_at lw_m9 188 rfl) rfl
theorem q2205 : (Jvm.Cond.methodLink "java/lang/String" (586 : Nat) ({ cls := "java/lang/StringLatin1", name := "compareTo", desc := "([B[B)I" } : Jvm.MethodName)) ∈ lw_all := lw_g (lw_at lw_m9 189 rfl) rfl
theorem q2319 : (Jvm.Cond.methodLink "java/lang/String" (590 : Nat) ({ cls := "java/lang/StringUTF16", name := "compareTo", desc := "([B[B)I" } : Jvm.MethodName)) ∈ lw_all := lw_g (lw_at lw_m10 63 rfl) rfl
theorem q2326 : (Jvm.Cond.methodLink "java/lang/String" (591 : Nat) ({ cls := "java/lang/StringLatin1", name := "compareToUTF16", desc := "([B[B)I" } : Jvm.MethodName)) ∈ lw_all := lw_g (lw_at lw_m10 70 rfl) rfl
theorem q2337 : (Jvm.Cond.methodLink "java/lang/String" (594 : Nat) ({ cls := "java/lang/StringUTF16", name := "compareToLatin1", desc := "([B[B)I" } : Jvm.MethodName)) ∈ lw_all := lw_g (lw_at lw_m10 81 rfl) rfl
theorem q2363 : (Jvm.Cond.static ({ cls := "java/lang/String", name := "checkOffset", desc := "(II)V" } : Jvm.MethodName)) ∈ lw_all := lw_g (lw_at lw_m10 107 rfl) rfl
theorem q2364 : (Jvm.Cond.code ({ cls := "java/lang/String", name := "checkOffset", desc := "(II)V" } : Jvm.MethodName) prog_46_method_156_code (2 : Nat) (Option.none : Option Jvm.ClassFile.FieldType)) ∈ lw_all := lw_g (lw_at lw_m10 108 rfl) rfl
theorem q2544 : (Jvm.Cond.instanceMethod ({ cls := "java/lang/String", name := "charAt", desc := "(I)C" } : Jvm.MethodName)) ∈ lw_all := lw_g (lw_at lw_m11 48 rfl) rfl
theorem q2545 : (Jvm.Cond.selects "java/lang/String" ({ cls := "java/lang/String", name := "charAt", desc := "(I)C" } : Jvm.MethodName) ({ cls := "java/lang/String", name := "charAt", desc := "(I)C" } : Jvm.MethodName)) ∈ lw_all := lw_g (lw_at lw_m11 49 rfl) rfl
theorem q2546 : (Jvm.Cond.code ({ cls := "java/lang/String", name := "charAt", desc := "(I)C" } : Jvm.MethodName) prog_46_method_56_code (2 : Nat) (Option.some Jvm.ClassFile.FieldType.char)) ∈ lw_all := lw_g (lw_at lw_m11 50 rfl) rfl
theorem q2547 : (Jvm.Cond.methodLink "java/lang/String" (492 : Nat) ({ cls := "java/lang/String", name := "isLatin1", desc := "()Z" } : Jvm.MethodName)) ∈ lw_all := lw_g (lw_at lw_m11 51 rfl) rfl
theorem q2548 : (Jvm.Cond.instanceMethod ({ cls := "java/lang/String", name := "isLatin1", desc := "()Z" } : Jvm.MethodName)) ∈ lw_all := lw_g (lw_at lw_m11 52 rfl) rfl
theorem q2549 : (Jvm.Cond.selects "java/lang/String" ({ cls := "java/lang/String", name := "isLatin1", desc := "()Z" } : Jvm.MethodName) ({ cls := "java/lang/String", name := "isLatin1", desc := "()Z" } : Jvm.MethodName)) ∈ lw_all := lw_g (lw_at lw_m11 53 rfl) rfl
theorem q2550 : (Jvm.Cond.code ({ cls := "java/lang/String", name := "isLatin1", desc := "()Z" } : Jvm.MethodName) prog_46_method_154_code (1 : Nat) (Option.some Jvm.ClassFile.FieldType.boolean)) ∈ lw_all := lw_g (lw_at lw_m11 54 rfl) rfl
theorem q2551 : (Jvm.Cond.methodLink "java/lang/String" (495 : Nat) ({ cls := "java/lang/StringLatin1", name := "charAt", desc := "([BI)C" } : Jvm.MethodName)) ∈ lw_all := lw_g (lw_at lw_m11 55 rfl) rfl
theorem q2555 : (Jvm.Cond.methodLink "java/lang/String" (498 : Nat) ({ cls := "java/lang/StringUTF16", name := "charAt", desc := "([BI)C" } : Jvm.MethodName)) ∈ lw_all := lw_g (lw_at lw_m11 59 rfl) rfl
theorem q3324 : (Jvm.Cond.castable "java/lang/String" "java/lang/Object") ∈ lw_tbl := lw_at lw_m14 108 rfl
theorem in_J9 : ∀ w ∈ wsJ90, w ∈ lw_all := lw_in wsJ90 [388, 390, 836, 838] (by decide +kernel) (by decide +kernel)
/-! java/lang/AbstractStringBuilder -/
def RJ14 : String := "java/lang/AbstractStringBuilder"
abbrev cJ14_init : ByteArray := prog_26_method_2_code
def yJ14_init : MethodName := ⟨RJ14, "<init>", "(I)V"⟩
def dkwJ14_init_1 : List UInt8 := [167, 0, 16, 42, 27, 184, 0, 26, 181, 0, 15, 42, 4, 181, 0, 22, 177]
abbrev dktJ14_init_1 : List UInt8 := dkwJ14_init_1 ++ []
def dkwJ14_init_0 : List UInt8 := [42, 183, 0, 3, 178, 0, 18, 153, 0, 18, 42, 27, 188, 8, 181, 0, 15, 42, 3, 181, 0, 22]
abbrev dktJ14_init_0 : List UInt8 := dkwJ14_init_0 ++ dktJ14_init_1
theorem dksJ14_init_0 : cJ14_init.data.toList.drop 0 = dktJ14_init_0 := by decide +kernel
theorem dksJ14_init_1 : cJ14_init.data.toList.drop 22 = dktJ14_init_1 := dk_seg dksJ14_init_0 22 rfl rfl
theorem dJ14_init_0 : decode cJ14_init 0 = .ok (.aload_n 0, 1) := dk_42 (dk_at dksJ14_init_0 0 rfl rfl)
theorem dJ14_init_1 : decode cJ14_init 1 = .ok (.invokespecial 3, 3) := dk_183 0 3 (dk_at dksJ14_init_0 1 rfl rfl)
theorem dJ14_init_4 : decode cJ14_init 4 = .ok (.getstatic 18, 3) := dk_178 0 18 (dk_at dksJ14_init_0 4 rfl rfl)
theorem dJ14_init_7 : decode cJ14_init 7 = .ok (.ifCond .eq 18, 3) := dk_153 0 18 (dk_at dksJ14_init_0 7 rfl rfl)
theorem dJ14_init_10 : decode cJ14_init 10 = .ok (.aload_n 0, 1) := dk_42 (dk_at dksJ14_init_0 10 rfl rfl)
theorem dJ14_init_11 : decode cJ14_init 11 = .ok (.iload_n 1, 1) := dk_27 (dk_at dksJ14_init_0 11 rfl rfl)
theorem dJ14_init_12 : decode cJ14_init 12 = .ok (.newarray .byte, 2) := dk_188_8 (dk_at dksJ14_init_0 12 rfl rfl)
theorem dJ14_init_14 : decode cJ14_init 14 = .ok (.putfield 15, 3) := dk_181 0 15 (dk_at dksJ14_init_0 14 rfl rfl)
theorem dJ14_init_17 : decode cJ14_init 17 = .ok (.aload_n 0, 1) := dk_42 (dk_at dksJ14_init_0 17 rfl rfl)
theorem dJ14_init_18 : decode cJ14_init 18 = .ok (.iconst 0, 1) := dk_3 (dk_at dksJ14_init_0 18 rfl rfl)
theorem dJ14_init_19 : decode cJ14_init 19 = .ok (.putfield 22, 3) := dk_181 0 22 (dk_at dksJ14_init_0 19 rfl rfl)
theorem dJ14_init_22 : decode cJ14_init 22 = .ok (.goto 16, 3) := dk_167 0 16 (dk_at dksJ14_init_1 0 rfl rfl)
theorem dJ14_init_25 : decode cJ14_init 25 = .ok (.aload_n 0, 1) := dk_42 (dk_at dksJ14_init_1 3 rfl rfl)
theorem dJ14_init_26 : decode cJ14_init 26 = .ok (.iload_n 1, 1) := dk_27 (dk_at dksJ14_init_1 4 rfl rfl)
theorem dJ14_init_27 : decode cJ14_init 27 = .ok (.invokestatic 26, 3) := dk_184 0 26 (dk_at dksJ14_init_1 5 rfl rfl)
theorem dJ14_init_30 : decode cJ14_init 30 = .ok (.putfield 15, 3) := dk_181 0 15 (dk_at dksJ14_init_1 8 rfl rfl)
theorem dJ14_init_33 : decode cJ14_init 33 = .ok (.aload_n 0, 1) := dk_42 (dk_at dksJ14_init_1 11 rfl rfl)
theorem dJ14_init_34 : decode cJ14_init 34 = .ok (.iconst 1, 1) := dk_4 (dk_at dksJ14_init_1 12 rfl rfl)
theorem dJ14_init_35 : decode cJ14_init 35 = .ok (.putfield 22, 3) := dk_181 0 22 (dk_at dksJ14_init_1 13 rfl rfl)
theorem dJ14_init_38 : decode cJ14_init 38 = .ok (.return_, 1) := dk_177 (dk_at dksJ14_init_1 16 rfl rfl)
abbrev cJ14_append : ByteArray := prog_26_method_22_code
def yJ14_append : MethodName := ⟨RJ14, "append", "(Ljava/lang/String;)Ljava/lang/AbstractStringBuilder;"⟩
def dkwJ14_append_1 : List UInt8 := [42, 42, 180, 0, 79, 43, 182, 0, 208, 42, 89, 180, 0, 79, 28, 96, 181, 0, 79, 42, 176]
abbrev dktJ14_append_1 : List UInt8 := dkwJ14_append_1 ++ []
def dkwJ14_append_0 : List UInt8 := [43, 199, 0, 8, 42, 182, 0, 204, 176, 43, 182, 0, 32, 61, 42, 42, 180, 0, 79, 28, 96, 182, 0, 100]
abbrev dktJ14_append_0 : List UInt8 := dkwJ14_append_0 ++ dktJ14_append_1
theorem dksJ14_append_0 : cJ14_append.data.toList.drop 0 = dktJ14_append_0 := by decide +kernel
theorem dksJ14_append_1 : cJ14_append.data.toList.drop 24 = dktJ14_append_1 := dk_seg dksJ14_append_0 24 rfl rfl
theorem dJ14_append_0 : decode cJ14_append 0 = .ok (.aload_n 1, 1) := dk_43 (dk_at dksJ14_append_0 0 rfl rfl)
theorem dJ14_append_1 : decode cJ14_append 1 = .ok (.ifnonnull 8, 3) := dk_199 0 8 (dk_at dksJ14_append_0 1 rfl rfl)
theorem dJ14_append_4 : decode cJ14_append 4 = .ok (.aload_n 0, 1) := dk_42 (dk_at dksJ14_append_0 4 rfl rfl)
theorem dJ14_append_5 : decode cJ14_append 5 = .ok (.invokevirtual 204, 3) := dk_182 0 204 (dk_at dksJ14_append_0 5 rfl rfl)
theorem dJ14_append_8 : decode cJ14_append 8 = .ok (.areturn, 1) := dk_176 (dk_at dksJ14_append_0 8 rfl rfl)
theorem dJ14_append_9 : decode cJ14_append 9 = .ok (.aload_n 1, 1) := dk_43 (dk_at dksJ14_append_0 9 rfl rfl)
theorem dJ14_append_10 : decode cJ14_append 10 = .ok (.invokevirtual 32, 3) := dk_182 0 32 (dk_at dksJ14_append_0 10 rfl rfl)
theorem dJ14_append_13 : decode cJ14_append 13 = .ok (.istore_n 2, 1) := dk_61 (dk_at dksJ14_append_0 13 rfl rfl)
theorem dJ14_append_14 : decode cJ14_append 14 = .ok (.aload_n 0, 1) := dk_42 (dk_at dksJ14_append_0 14 rfl rfl)
theorem dJ14_append_15 : decode cJ14_append 15 = .ok (.aload_n 0, 1) := dk_42 (dk_at dksJ14_append_0 15 rfl rfl)
theorem dJ14_append_16 : decode cJ14_append 16 = .ok (.getfield 79, 3) := dk_180 0 79 (dk_at dksJ14_append_0 16 rfl rfl)
theorem dJ14_append_19 : decode cJ14_append 19 = .ok (.iload_n 2, 1) := dk_28 (dk_at dksJ14_append_0 19 rfl rfl)
theorem dJ14_append_20 : decode cJ14_append 20 = .ok (.iadd, 1) := dk_96 (dk_at dksJ14_append_0 20 rfl rfl)
theorem dJ14_append_21 : decode cJ14_append 21 = .ok (.invokevirtual 100, 3) := dk_182 0 100 (dk_at dksJ14_append_0 21 rfl rfl)
theorem dJ14_append_24 : decode cJ14_append 24 = .ok (.aload_n 0, 1) := dk_42 (dk_at dksJ14_append_1 0 rfl rfl)
theorem dJ14_append_25 : decode cJ14_append 25 = .ok (.aload_n 0, 1) := dk_42 (dk_at dksJ14_append_1 1 rfl rfl)
theorem dJ14_append_26 : decode cJ14_append 26 = .ok (.getfield 79, 3) := dk_180 0 79 (dk_at dksJ14_append_1 2 rfl rfl)
theorem dJ14_append_29 : decode cJ14_append 29 = .ok (.aload_n 1, 1) := dk_43 (dk_at dksJ14_append_1 5 rfl rfl)
theorem dJ14_append_30 : decode cJ14_append 30 = .ok (.invokevirtual 208, 3) := dk_182 0 208 (dk_at dksJ14_append_1 6 rfl rfl)
theorem dJ14_append_33 : decode cJ14_append 33 = .ok (.aload_n 0, 1) := dk_42 (dk_at dksJ14_append_1 9 rfl rfl)
theorem dJ14_append_34 : decode cJ14_append 34 = .ok (.dup, 1) := dk_89 (dk_at dksJ14_append_1 10 rfl rfl)
theorem dJ14_append_35 : decode cJ14_append 35 = .ok (.getfield 79, 3) := dk_180 0 79 (dk_at dksJ14_append_1 11 rfl rfl)
theorem dJ14_append_38 : decode cJ14_append 38 = .ok (.iload_n 2, 1) := dk_28 (dk_at dksJ14_append_1 14 rfl rfl)
theorem dJ14_append_39 : decode cJ14_append 39 = .ok (.iadd, 1) := dk_96 (dk_at dksJ14_append_1 15 rfl rfl)
theorem dJ14_append_40 : decode cJ14_append 40 = .ok (.putfield 79, 3) := dk_181 0 79 (dk_at dksJ14_append_1 16 rfl rfl)
theorem dJ14_append_43 : decode cJ14_append 43 = .ok (.aload_n 0, 1) := dk_42 (dk_at dksJ14_append_1 19 rfl rfl)
theorem dJ14_append_44 : decode cJ14_append 44 = .ok (.areturn, 1) := dk_176 (dk_at dksJ14_append_1 20 rfl rfl)
abbrev cJ14_appendNull : ByteArray := prog_26_method_26_code
def yJ14_appendNull : MethodName := ⟨RJ14, "appendNull", "()Ljava/lang/AbstractStringBuilder;"⟩
def dkwJ14_appendNull_3 : List UInt8 := [184, 0, 226, 60, 42, 27, 181, 0, 79, 42, 176]
abbrev dktJ14_appendNull_3 : List UInt8 := dkwJ14_appendNull_3 ++ []
def dkwJ14_appendNull_2 : List UInt8 := [16, 108, 84, 44, 27, 132, 1, 1, 16, 108, 84, 167, 0, 17, 44, 27, 16, 110, 16, 117, 16, 108, 16, 108]
abbrev dktJ14_appendNull_2 : List UInt8 := dkwJ14_appendNull_2 ++ dktJ14_appendNull_3
def dkwJ14_appendNull_1 : List UInt8 := [153, 0, 38, 44, 27, 132, 1, 1, 16, 110, 84, 44, 27, 132, 1, 1, 16, 117, 84, 44, 27, 132, 1, 1]
abbrev dktJ14_appendNull_1 : List UInt8 := dkwJ14_appendNull_1 ++ dktJ14_appendNull_2
def dkwJ14_appendNull_0 : List UInt8 := [42, 42, 180, 0, 79, 7, 96, 182, 0, 100, 42, 180, 0, 79, 60, 42, 180, 0, 15, 77, 42, 182, 0, 83]
abbrev dktJ14_appendNull_0 : List UInt8 := dkwJ14_appendNull_0 ++ dktJ14_appendNull_1
theorem dksJ14_appendNull_0 : cJ14_appendNull.data.toList.drop 0 = dktJ14_appendNull_0 := by decide +kernel
theorem dksJ14_appendNull_1 : cJ14_appendNull.data.toList.drop 24 = dktJ14_appendNull_1 := dk_seg dksJ14_appendNull_0 24 rfl rfl
theorem dksJ14_appendNull_2 : cJ14_appendNull.data.toList.drop 48 = dktJ14_appendNull_2 := dk_seg dksJ14_appendNull_1 24 rfl rfl
theorem dksJ14_appendNull_3 : cJ14_appendNull.data.toList.drop 72 = dktJ14_appendNull_3 := dk_seg dksJ14_appendNull_2 24 rfl rfl
theorem dJ14_appendNull_0 : decode cJ14_appendNull 0 = .ok (.aload_n 0, 1) := dk_42 (dk_at dksJ14_appendNull_0 0 rfl rfl)
theorem dJ14_appendNull_1 : decode cJ14_appendNull 1 = .ok (.aload_n 0, 1) := dk_42 (dk_at dksJ14_appendNull_0 1 rfl rfl)
theorem dJ14_appendNull_2 : decode cJ14_appendNull 2 = .ok (.getfield 79, 3) := dk_180 0 79 (dk_at dksJ14_appendNull_0 2 rfl rfl)
theorem dJ14_appendNull_5 : decode cJ14_appendNull 5 = .ok (.iconst 4, 1) := dk_7 (dk_at dksJ14_appendNull_0 5 rfl rfl)
theorem dJ14_appendNull_6 : decode cJ14_appendNull 6 = .ok (.iadd, 1) := dk_96 (dk_at dksJ14_appendNull_0 6 rfl rfl)
theorem dJ14_appendNull_7 : decode cJ14_appendNull 7 = .ok (.invokevirtual 100, 3) := dk_182 0 100 (dk_at dksJ14_appendNull_0 7 rfl rfl)
theorem dJ14_appendNull_10 : decode cJ14_appendNull 10 = .ok (.aload_n 0, 1) := dk_42 (dk_at dksJ14_appendNull_0 10 rfl rfl)
theorem dJ14_appendNull_11 : decode cJ14_appendNull 11 = .ok (.getfield 79, 3) := dk_180 0 79 (dk_at dksJ14_appendNull_0 11 rfl rfl)
theorem dJ14_appendNull_14 : decode cJ14_appendNull 14 = .ok (.istore_n 1, 1) := dk_60 (dk_at dksJ14_appendNull_0 14 rfl rfl)
theorem dJ14_appendNull_15 : decode cJ14_appendNull 15 = .ok (.aload_n 0, 1) := dk_42 (dk_at dksJ14_appendNull_0 15 rfl rfl)
theorem dJ14_appendNull_16 : decode cJ14_appendNull 16 = .ok (.getfield 15, 3) := dk_180 0 15 (dk_at dksJ14_appendNull_0 16 rfl rfl)
theorem dJ14_appendNull_19 : decode cJ14_appendNull 19 = .ok (.astore_n 2, 1) := dk_77 (dk_at dksJ14_appendNull_0 19 rfl rfl)
theorem dJ14_appendNull_20 : decode cJ14_appendNull 20 = .ok (.aload_n 0, 1) := dk_42 (dk_at dksJ14_appendNull_0 20 rfl rfl)
theorem dJ14_appendNull_21 : decode cJ14_appendNull 21 = .ok (.invokevirtual 83, 3) := dk_182 0 83 (dk_at dksJ14_appendNull_0 21 rfl rfl)
theorem dJ14_appendNull_24 : decode cJ14_appendNull 24 = .ok (.ifCond .eq 38, 3) := dk_153 0 38 (dk_at dksJ14_appendNull_1 0 rfl rfl)
theorem dJ14_appendNull_27 : decode cJ14_appendNull 27 = .ok (.aload_n 2, 1) := dk_44 (dk_at dksJ14_appendNull_1 3 rfl rfl)
theorem dJ14_appendNull_28 : decode cJ14_appendNull 28 = .ok (.iload_n 1, 1) := dk_27 (dk_at dksJ14_appendNull_1 4 rfl rfl)
theorem dJ14_appendNull_29 : decode cJ14_appendNull 29 = .ok (.iinc 1 1, 3) := dk_132 1 1 (dk_at dksJ14_appendNull_1 5 rfl rfl)
theorem dJ14_appendNull_32 : decode cJ14_appendNull 32 = .ok (.bipush 110, 2) := dk_16 110 (dk_at dksJ14_appendNull_1 8 rfl rfl)
theorem dJ14_appendNull_34 : decode cJ14_appendNull 34 = .ok (.bastore, 1) := dk_84 (dk_at dksJ14_appendNull_1 10 rfl rfl)
theorem dJ14_appendNull_35 : decode cJ14_appendNull 35 = .ok (.aload_n 2, 1) := dk_44 (dk_at dksJ14_appendNull_1 11 rfl rfl)
theorem dJ14_appendNull_36 : decode cJ14_appendNull 36 = .ok (.iload_n 1, 1) := dk_27 (dk_at dksJ14_appendNull_1 12 rfl rfl)
theorem dJ14_appendNull_37 : decode cJ14_appendNull 37 = .ok (.iinc 1 1, 3) := dk_132 1 1 (dk_at dksJ14_appendNull_1 13 rfl rfl)
theorem dJ14_appendNull_40 : decode cJ14_appendNull 40 = .ok (.bipush 117, 2) := dk_16 117 (dk_at dksJ14_appendNull_1 16 rfl rfl)
theorem dJ14_appendNull_42 : decode cJ14_appendNull 42 = .ok (.bastore, 1) := dk_84 (dk_at dksJ14_appendNull_1 18 rfl rfl)
theorem dJ14_appendNull_43 : decode cJ14_appendNull 43 = .ok (.aload_n 2, 1) := dk_44 (dk_at dksJ14_appendNull_1 19 rfl rfl)
theorem dJ14_appendNull_44 : decode cJ14_appendNull 44 = .ok (.iload_n 1, 1) := dk_27 (dk_at dksJ14_appendNull_1 20 rfl rfl)
theorem dJ14_appendNull_45 : decode cJ14_appendNull 45 = .ok (.iinc 1 1, 3) := dk_132 1 1 (dk_at dksJ14_appendNull_1 21 rfl rfl)
theorem dJ14_appendNull_48 : decode cJ14_appendNull 48 = .ok (.bipush 108, 2) := dk_16 108 (dk_at dksJ14_appendNull_2 0 rfl rfl)
theorem dJ14_appendNull_50 : decode cJ14_appendNull 50 = .ok (.bastore, 1) := dk_84 (dk_at dksJ14_appendNull_2 2 rfl rfl)
theorem dJ14_appendNull_51 : decode cJ14_appendNull 51 = .ok (.aload_n 2, 1) := dk_44 (dk_at dksJ14_appendNull_2 3 rfl rfl)
theorem dJ14_appendNull_52 : decode cJ14_appendNull 52 = .ok (.iload_n 1, 1) := dk_27 (dk_at dksJ14_appendNull_2 4 rfl rfl)
theorem dJ14_appendNull_53 : decode cJ14_appendNull 53 = .ok (.iinc 1 1, 3) := dk_132 1 1 (dk_at dksJ14_appendNull_2 5 rfl rfl)
theorem dJ14_appendNull_56 : decode cJ14_appendNull 56 = .ok (.bipush 108, 2) := dk_16 108 (dk_at dksJ14_appendNull_2 8 rfl rfl)
theorem dJ14_appendNull_58 : decode cJ14_appendNull 58 = .ok (.bastore, 1) := dk_84 (dk_at dksJ14_appendNull_2 10 rfl rfl)
theorem dJ14_appendNull_59 : decode cJ14_appendNull 59 = .ok (.goto 17, 3) := dk_167 0 17 (dk_at dksJ14_appendNull_2 11 rfl rfl)
theorem dJ14_appendNull_62 : decode cJ14_appendNull 62 = .ok (.aload_n 2, 1) := dk_44 (dk_at dksJ14_appendNull_2 14 rfl rfl)
theorem dJ14_appendNull_63 : decode cJ14_appendNull 63 = .ok (.iload_n 1, 1) := dk_27 (dk_at dksJ14_appendNull_2 15 rfl rfl)
theorem dJ14_appendNull_64 : decode cJ14_appendNull 64 = .ok (.bipush 110, 2) := dk_16 110 (dk_at dksJ14_appendNull_2 16 rfl rfl)
theorem dJ14_appendNull_66 : decode cJ14_appendNull 66 = .ok (.bipush 117, 2) := dk_16 117 (dk_at dksJ14_appendNull_2 18 rfl rfl)
theorem dJ14_appendNull_68 : decode cJ14_appendNull 68 = .ok (.bipush 108, 2) := dk_16 108 (dk_at dksJ14_appendNull_2 20 rfl rfl)
theorem dJ14_appendNull_70 : decode cJ14_appendNull 70 = .ok (.bipush 108, 2) := dk_16 108 (dk_at dksJ14_appendNull_2 22 rfl rfl)
theorem dJ14_appendNull_72 : decode cJ14_appendNull 72 = .ok (.invokestatic 226, 3) := dk_184 0 226 (dk_at dksJ14_appendNull_3 0 rfl rfl)
theorem dJ14_appendNull_75 : decode cJ14_appendNull 75 = .ok (.istore_n 1, 1) := dk_60 (dk_at dksJ14_appendNull_3 3 rfl rfl)
theorem dJ14_appendNull_76 : decode cJ14_appendNull 76 = .ok (.aload_n 0, 1) := dk_42 (dk_at dksJ14_appendNull_3 4 rfl rfl)
theorem dJ14_appendNull_77 : decode cJ14_appendNull 77 = .ok (.iload_n 1, 1) := dk_27 (dk_at dksJ14_appendNull_3 5 rfl rfl)
theorem dJ14_appendNull_78 : decode cJ14_appendNull 78 = .ok (.putfield 79, 3) := dk_181 0 79 (dk_at dksJ14_appendNull_3 6 rfl rfl)
theorem dJ14_appendNull_81 : decode cJ14_appendNull 81 = .ok (.aload_n 0, 1) := dk_42 (dk_at dksJ14_appendNull_3 9 rfl rfl)
theorem dJ14_appendNull_82 : decode cJ14_appendNull 82 = .ok (.areturn, 1) := dk_176 (dk_at dksJ14_appendNull_3 10 rfl rfl)
abbrev cJ14_ensureCapacityInternal : ByteArray := prog_26_method_9_code
def yJ14_ensureCapacityInternal : MethodName := ⟨RJ14, "ensureCapacityInternal", "(I)V"⟩
def dkwJ14_ensureCapacityInternal_1 : List UInt8 := [182, 0, 104, 42, 180, 0, 22, 120, 184, 0, 108, 181, 0, 15, 177]
abbrev dktJ14_ensureCapacityInternal_1 : List UInt8 := dkwJ14_ensureCapacityInternal_1 ++ []
def dkwJ14_ensureCapacityInternal_0 : List UInt8 := [42, 180, 0, 15, 190, 42, 180, 0, 22, 122, 61, 27, 28, 100, 158, 0, 24, 42, 42, 180, 0, 15, 42, 27]
abbrev dktJ14_ensureCapacityInternal_0 : List UInt8 := dkwJ14_ensureCapacityInternal_0 ++ dktJ14_ensureCapacityInternal_1
theorem dksJ14_ensureCapacityInternal_0 : cJ14_ensureCapacityInternal.data.toList.drop 0 = dktJ14_ensureCapacityInternal_0 := by decide +kernel
theorem dksJ14_ensureCapacityInternal_1 : cJ14_ensureCapacityInternal.data.toList.drop 24 = dktJ14_ensureCapacityInternal_1 := dk_seg dksJ14_ensureCapacityInternal_0 24 rfl rfl
theorem dJ14_ensureCapacityInternal_0 : decode cJ14_ensureCapacityInternal 0 = .ok (.aload_n 0, 1) := dk_42 (dk_at dksJ14_ensureCapacityInternal_0 0 rfl rfl)
theorem dJ14_ensureCapacityInternal_1 : decode cJ14_ensureCapacityInternal 1 = .ok (.getfield 15, 3) := dk_180 0 15 (dk_at dksJ14_ensureCapacityInternal_0 1 rfl rfl)
theorem dJ14_ensureCapacityInternal_4 : decode cJ14_ensureCapacityInternal 4 = .ok (.arraylength, 1) := dk_190 (dk_at dksJ14_ensureCapacityInternal_0 4 rfl rfl)
theorem dJ14_ensureCapacityInternal_5 : decode cJ14_ensureCapacityInternal 5 = .ok (.aload_n 0, 1) := dk_42 (dk_at dksJ14_ensureCapacityInternal_0 5 rfl rfl)
theorem dJ14_ensureCapacityInternal_6 : decode cJ14_ensureCapacityInternal 6 = .ok (.getfield 22, 3) := dk_180 0 22 (dk_at dksJ14_ensureCapacityInternal_0 6 rfl rfl)
theorem dJ14_ensureCapacityInternal_9 : decode cJ14_ensureCapacityInternal 9 = .ok (.ishr, 1) := dk_122 (dk_at dksJ14_ensureCapacityInternal_0 9 rfl rfl)
theorem dJ14_ensureCapacityInternal_10 : decode cJ14_ensureCapacityInternal 10 = .ok (.istore_n 2, 1) := dk_61 (dk_at dksJ14_ensureCapacityInternal_0 10 rfl rfl)
theorem dJ14_ensureCapacityInternal_11 : decode cJ14_ensureCapacityInternal 11 = .ok (.iload_n 1, 1) := dk_27 (dk_at dksJ14_ensureCapacityInternal_0 11 rfl rfl)
theorem dJ14_ensureCapacityInternal_12 : decode cJ14_ensureCapacityInternal 12 = .ok (.iload_n 2, 1) := dk_28 (dk_at dksJ14_ensureCapacityInternal_0 12 rfl rfl)
theorem dJ14_ensureCapacityInternal_13 : decode cJ14_ensureCapacityInternal 13 = .ok (.isub, 1) := dk_100 (dk_at dksJ14_ensureCapacityInternal_0 13 rfl rfl)
theorem dJ14_ensureCapacityInternal_14 : decode cJ14_ensureCapacityInternal 14 = .ok (.ifCond .le 24, 3) := dk_158 0 24 (dk_at dksJ14_ensureCapacityInternal_0 14 rfl rfl)
theorem dJ14_ensureCapacityInternal_17 : decode cJ14_ensureCapacityInternal 17 = .ok (.aload_n 0, 1) := dk_42 (dk_at dksJ14_ensureCapacityInternal_0 17 rfl rfl)
theorem dJ14_ensureCapacityInternal_18 : decode cJ14_ensureCapacityInternal 18 = .ok (.aload_n 0, 1) := dk_42 (dk_at dksJ14_ensureCapacityInternal_0 18 rfl rfl)
theorem dJ14_ensureCapacityInternal_19 : decode cJ14_ensureCapacityInternal 19 = .ok (.getfield 15, 3) := dk_180 0 15 (dk_at dksJ14_ensureCapacityInternal_0 19 rfl rfl)
theorem dJ14_ensureCapacityInternal_22 : decode cJ14_ensureCapacityInternal 22 = .ok (.aload_n 0, 1) := dk_42 (dk_at dksJ14_ensureCapacityInternal_0 22 rfl rfl)
theorem dJ14_ensureCapacityInternal_23 : decode cJ14_ensureCapacityInternal 23 = .ok (.iload_n 1, 1) := dk_27 (dk_at dksJ14_ensureCapacityInternal_0 23 rfl rfl)
theorem dJ14_ensureCapacityInternal_24 : decode cJ14_ensureCapacityInternal 24 = .ok (.invokevirtual 104, 3) := dk_182 0 104 (dk_at dksJ14_ensureCapacityInternal_1 0 rfl rfl)
theorem dJ14_ensureCapacityInternal_27 : decode cJ14_ensureCapacityInternal 27 = .ok (.aload_n 0, 1) := dk_42 (dk_at dksJ14_ensureCapacityInternal_1 3 rfl rfl)
theorem dJ14_ensureCapacityInternal_28 : decode cJ14_ensureCapacityInternal 28 = .ok (.getfield 22, 3) := dk_180 0 22 (dk_at dksJ14_ensureCapacityInternal_1 4 rfl rfl)
theorem dJ14_ensureCapacityInternal_31 : decode cJ14_ensureCapacityInternal 31 = .ok (.ishl, 1) := dk_120 (dk_at dksJ14_ensureCapacityInternal_1 7 rfl rfl)
theorem dJ14_ensureCapacityInternal_32 : decode cJ14_ensureCapacityInternal 32 = .ok (.invokestatic 108, 3) := dk_184 0 108 (dk_at dksJ14_ensureCapacityInternal_1 8 rfl rfl)
theorem dJ14_ensureCapacityInternal_35 : decode cJ14_ensureCapacityInternal 35 = .ok (.putfield 15, 3) := dk_181 0 15 (dk_at dksJ14_ensureCapacityInternal_1 11 rfl rfl)
theorem dJ14_ensureCapacityInternal_38 : decode cJ14_ensureCapacityInternal 38 = .ok (.return_, 1) := dk_177 (dk_at dksJ14_ensureCapacityInternal_1 14 rfl rfl)
abbrev cJ14_newCapacity : ByteArray := prog_26_method_10_code
def yJ14_newCapacity : MethodName := ⟨RJ14, "newCapacity", "(I)I"⟩
def dkwJ14_newCapacity_2 : List UInt8 := [183, 0, 124, 191, 21, 5, 42, 180, 0, 22, 122, 172]
abbrev dktJ14_newCapacity_2 : List UInt8 := dkwJ14_newCapacity_2 ++ []
def dkwJ14_newCapacity_1 : List UInt8 := [180, 0, 22, 120, 96, 184, 0, 114, 54, 5, 21, 5, 18, 39, 160, 0, 13, 187, 0, 120, 89, 18, 122]
abbrev dktJ14_newCapacity_1 : List UInt8 := dkwJ14_newCapacity_1 ++ dktJ14_newCapacity_2
def dkwJ14_newCapacity_0 : List UInt8 := [42, 180, 0, 15, 190, 61, 27, 42, 180, 0, 22, 120, 62, 29, 28, 100, 54, 4, 28, 21, 4, 28, 5, 42]
abbrev dktJ14_newCapacity_0 : List UInt8 := dkwJ14_newCapacity_0 ++ dktJ14_newCapacity_1
theorem dksJ14_newCapacity_0 : cJ14_newCapacity.data.toList.drop 0 = dktJ14_newCapacity_0 := by decide +kernel
theorem dksJ14_newCapacity_1 : cJ14_newCapacity.data.toList.drop 24 = dktJ14_newCapacity_1 := dk_seg dksJ14_newCapacity_0 24 rfl rfl
theorem dksJ14_newCapacity_2 : cJ14_newCapacity.data.toList.drop 47 = dktJ14_newCapacity_2 := dk_seg dksJ14_newCapacity_1 23 rfl rfl
theorem dJ14_newCapacity_0 : decode cJ14_newCapacity 0 = .ok (.aload_n 0, 1) := dk_42 (dk_at dksJ14_newCapacity_0 0 rfl rfl)
theorem dJ14_newCapacity_1 : decode cJ14_newCapacity 1 = .ok (.getfield 15, 3) := dk_180 0 15 (dk_at dksJ14_newCapacity_0 1 rfl rfl)
theorem dJ14_newCapacity_4 : decode cJ14_newCapacity 4 = .ok (.arraylength, 1) := dk_190 (dk_at dksJ14_newCapacity_0 4 rfl rfl)
theorem dJ14_newCapacity_5 : decode cJ14_newCapacity 5 = .ok (.istore_n 2, 1) := dk_61 (dk_at dksJ14_newCapacity_0 5 rfl rfl)
theorem dJ14_newCapacity_6 : decode cJ14_newCapacity 6 = .ok (.iload_n 1, 1) := dk_27 (dk_at dksJ14_newCapacity_0 6 rfl rfl)
theorem dJ14_newCapacity_7 : decode cJ14_newCapacity 7 = .ok (.aload_n 0, 1) := dk_42 (dk_at dksJ14_newCapacity_0 7 rfl rfl)
theorem dJ14_newCapacity_8 : decode cJ14_newCapacity 8 = .ok (.getfield 22, 3) := dk_180 0 22 (dk_at dksJ14_newCapacity_0 8 rfl rfl)
theorem dJ14_newCapacity_11 : decode cJ14_newCapacity 11 = .ok (.ishl, 1) := dk_120 (dk_at dksJ14_newCapacity_0 11 rfl rfl)
theorem dJ14_newCapacity_12 : decode cJ14_newCapacity 12 = .ok (.istore_n 3, 1) := dk_62 (dk_at dksJ14_newCapacity_0 12 rfl rfl)
theorem dJ14_newCapacity_13 : decode cJ14_newCapacity 13 = .ok (.iload_n 3, 1) := dk_29 (dk_at dksJ14_newCapacity_0 13 rfl rfl)
theorem dJ14_newCapacity_14 : decode cJ14_newCapacity 14 = .ok (.iload_n 2, 1) := dk_28 (dk_at dksJ14_newCapacity_0 14 rfl rfl)
theorem dJ14_newCapacity_15 : decode cJ14_newCapacity 15 = .ok (.isub, 1) := dk_100 (dk_at dksJ14_newCapacity_0 15 rfl rfl)
theorem dJ14_newCapacity_16 : decode cJ14_newCapacity 16 = .ok (.istore 4, 2) := dk_54 4 (dk_at dksJ14_newCapacity_0 16 rfl rfl)
theorem dJ14_newCapacity_18 : decode cJ14_newCapacity 18 = .ok (.iload_n 2, 1) := dk_28 (dk_at dksJ14_newCapacity_0 18 rfl rfl)
theorem dJ14_newCapacity_19 : decode cJ14_newCapacity 19 = .ok (.iload 4, 2) := dk_21 4 (dk_at dksJ14_newCapacity_0 19 rfl rfl)
theorem dJ14_newCapacity_21 : decode cJ14_newCapacity 21 = .ok (.iload_n 2, 1) := dk_28 (dk_at dksJ14_newCapacity_0 21 rfl rfl)
theorem dJ14_newCapacity_22 : decode cJ14_newCapacity 22 = .ok (.iconst 2, 1) := dk_5 (dk_at dksJ14_newCapacity_0 22 rfl rfl)
theorem dJ14_newCapacity_23 : decode cJ14_newCapacity 23 = .ok (.aload_n 0, 1) := dk_42 (dk_at dksJ14_newCapacity_0 23 rfl rfl)
theorem dJ14_newCapacity_24 : decode cJ14_newCapacity 24 = .ok (.getfield 22, 3) := dk_180 0 22 (dk_at dksJ14_newCapacity_1 0 rfl rfl)
theorem dJ14_newCapacity_27 : decode cJ14_newCapacity 27 = .ok (.ishl, 1) := dk_120 (dk_at dksJ14_newCapacity_1 3 rfl rfl)
theorem dJ14_newCapacity_28 : decode cJ14_newCapacity 28 = .ok (.iadd, 1) := dk_96 (dk_at dksJ14_newCapacity_1 4 rfl rfl)
theorem dJ14_newCapacity_29 : decode cJ14_newCapacity 29 = .ok (.invokestatic 114, 3) := dk_184 0 114 (dk_at dksJ14_newCapacity_1 5 rfl rfl)
theorem dJ14_newCapacity_32 : decode cJ14_newCapacity 32 = .ok (.istore 5, 2) := dk_54 5 (dk_at dksJ14_newCapacity_1 8 rfl rfl)
theorem dJ14_newCapacity_34 : decode cJ14_newCapacity 34 = .ok (.iload 5, 2) := dk_21 5 (dk_at dksJ14_newCapacity_1 10 rfl rfl)
theorem dJ14_newCapacity_36 : decode cJ14_newCapacity 36 = .ok (.ldc 39, 2) := dk_18 39 (dk_at dksJ14_newCapacity_1 12 rfl rfl)
theorem dJ14_newCapacity_38 : decode cJ14_newCapacity 38 = .ok (.if_icmp .ne 13, 3) := dk_160 0 13 (dk_at dksJ14_newCapacity_1 14 rfl rfl)
theorem dJ14_newCapacity_41 : decode cJ14_newCapacity 41 = .ok (.new 120, 3) := dk_187 0 120 (dk_at dksJ14_newCapacity_1 17 rfl rfl)
theorem dJ14_newCapacity_44 : decode cJ14_newCapacity 44 = .ok (.dup, 1) := dk_89 (dk_at dksJ14_newCapacity_1 20 rfl rfl)
theorem dJ14_newCapacity_45 : decode cJ14_newCapacity 45 = .ok (.ldc 122, 2) := dk_18 122 (dk_at dksJ14_newCapacity_1 21 rfl rfl)
theorem dJ14_newCapacity_47 : decode cJ14_newCapacity 47 = .ok (.invokespecial 124, 3) := dk_183 0 124 (dk_at dksJ14_newCapacity_2 0 rfl rfl)
theorem dJ14_newCapacity_50 : decode cJ14_newCapacity 50 = .ok (.athrow, 1) := dk_191 (dk_at dksJ14_newCapacity_2 3 rfl rfl)
theorem dJ14_newCapacity_51 : decode cJ14_newCapacity 51 = .ok (.iload 5, 2) := dk_21 5 (dk_at dksJ14_newCapacity_2 4 rfl rfl)
theorem dJ14_newCapacity_53 : decode cJ14_newCapacity 53 = .ok (.aload_n 0, 1) := dk_42 (dk_at dksJ14_newCapacity_2 6 rfl rfl)
theorem dJ14_newCapacity_54 : decode cJ14_newCapacity 54 = .ok (.getfield 22, 3) := dk_180 0 22 (dk_at dksJ14_newCapacity_2 7 rfl rfl)
theorem dJ14_newCapacity_57 : decode cJ14_newCapacity 57 = .ok (.ishr, 1) := dk_122 (dk_at dksJ14_newCapacity_2 10 rfl rfl)
theorem dJ14_newCapacity_58 : decode cJ14_newCapacity 58 = .ok (.ireturn, 1) := dk_172 (dk_at dksJ14_newCapacity_2 11 rfl rfl)
abbrev cJ14_isLatin1 : ByteArray := prog_26_method_68_code
def yJ14_isLatin1 : MethodName := ⟨RJ14, "isLatin1", "()Z"⟩
def dkwJ14_isLatin1_0 : List UInt8 := [178, 0, 18, 153, 0, 14, 42, 180, 0, 22, 154, 0, 7, 4, 167, 0, 4, 3, 172]
abbrev dktJ14_isLatin1_0 : List UInt8 := dkwJ14_isLatin1_0 ++ []
theorem dksJ14_isLatin1_0 : cJ14_isLatin1.data.toList.drop 0 = dktJ14_isLatin1_0 := by decide +kernel
theorem dJ14_isLatin1_0 : decode cJ14_isLatin1 0 = .ok (.getstatic 18, 3) := dk_178 0 18 (dk_at dksJ14_isLatin1_0 0 rfl rfl)
theorem dJ14_isLatin1_3 : decode cJ14_isLatin1 3 = .ok (.ifCond .eq 14, 3) := dk_153 0 14 (dk_at dksJ14_isLatin1_0 3 rfl rfl)
theorem dJ14_isLatin1_6 : decode cJ14_isLatin1 6 = .ok (.aload_n 0, 1) := dk_42 (dk_at dksJ14_isLatin1_0 6 rfl rfl)
theorem dJ14_isLatin1_7 : decode cJ14_isLatin1 7 = .ok (.getfield 22, 3) := dk_180 0 22 (dk_at dksJ14_isLatin1_0 7 rfl rfl)
theorem dJ14_isLatin1_10 : decode cJ14_isLatin1 10 = .ok (.ifCond .ne 7, 3) := dk_154 0 7 (dk_at dksJ14_isLatin1_0 10 rfl rfl)
theorem dJ14_isLatin1_13 : decode cJ14_isLatin1 13 = .ok (.iconst 1, 1) := dk_4 (dk_at dksJ14_isLatin1_0 13 rfl rfl)
theorem dJ14_isLatin1_14 : decode cJ14_isLatin1 14 = .ok (.goto 4, 3) := dk_167 0 4 (dk_at dksJ14_isLatin1_0 14 rfl rfl)
theorem dJ14_isLatin1_17 : decode cJ14_isLatin1 17 = .ok (.iconst 0, 1) := dk_3 (dk_at dksJ14_isLatin1_0 17 rfl rfl)
theorem dJ14_isLatin1_18 : decode cJ14_isLatin1 18 = .ok (.ireturn, 1) := dk_172 (dk_at dksJ14_isLatin1_0 18 rfl rfl)
abbrev cJ14_putStringAt : ByteArray := prog_26_method_73_code
def yJ14_putStringAt : MethodName := ⟨RJ14, "putStringAt", "(ILjava/lang/String;)V"⟩
def dkwJ14_putStringAt_0 : List UInt8 := [42, 44, 182, 1, 141, 44, 42, 180, 0, 15, 27, 42, 180, 0, 22, 182, 1, 143, 177]
abbrev dktJ14_putStringAt_0 : List UInt8 := dkwJ14_putStringAt_0 ++ []
theorem dksJ14_putStringAt_0 : cJ14_putStringAt.data.toList.drop 0 = dktJ14_putStringAt_0 := by decide +kernel
theorem dJ14_putStringAt_0 : decode cJ14_putStringAt 0 = .ok (.aload_n 0, 1) := dk_42 (dk_at dksJ14_putStringAt_0 0 rfl rfl)
theorem dJ14_putStringAt_1 : decode cJ14_putStringAt 1 = .ok (.aload_n 2, 1) := dk_44 (dk_at dksJ14_putStringAt_0 1 rfl rfl)
theorem dJ14_putStringAt_2 : decode cJ14_putStringAt 2 = .ok (.invokevirtual 397, 3) := dk_182 1 141 (dk_at dksJ14_putStringAt_0 2 rfl rfl)
theorem dJ14_putStringAt_5 : decode cJ14_putStringAt 5 = .ok (.aload_n 2, 1) := dk_44 (dk_at dksJ14_putStringAt_0 5 rfl rfl)
theorem dJ14_putStringAt_6 : decode cJ14_putStringAt 6 = .ok (.aload_n 0, 1) := dk_42 (dk_at dksJ14_putStringAt_0 6 rfl rfl)
theorem dJ14_putStringAt_7 : decode cJ14_putStringAt 7 = .ok (.getfield 15, 3) := dk_180 0 15 (dk_at dksJ14_putStringAt_0 7 rfl rfl)
theorem dJ14_putStringAt_10 : decode cJ14_putStringAt 10 = .ok (.iload_n 1, 1) := dk_27 (dk_at dksJ14_putStringAt_0 10 rfl rfl)
theorem dJ14_putStringAt_11 : decode cJ14_putStringAt 11 = .ok (.aload_n 0, 1) := dk_42 (dk_at dksJ14_putStringAt_0 11 rfl rfl)
theorem dJ14_putStringAt_12 : decode cJ14_putStringAt 12 = .ok (.getfield 22, 3) := dk_180 0 22 (dk_at dksJ14_putStringAt_0 12 rfl rfl)
theorem dJ14_putStringAt_15 : decode cJ14_putStringAt 15 = .ok (.invokevirtual 399, 3) := dk_182 1 143 (dk_at dksJ14_putStringAt_0 15 rfl rfl)
theorem dJ14_putStringAt_18 : decode cJ14_putStringAt 18 = .ok (.return_, 1) := dk_177 (dk_at dksJ14_putStringAt_0 18 rfl rfl)
abbrev cJ14_inflateIfNeededFor : ByteArray := prog_26_method_71_code
def yJ14_inflateIfNeededFor : MethodName := ⟨RJ14, "inflateIfNeededFor", "(Ljava/lang/String;)V"⟩
def dkwJ14_inflateIfNeededFor_0 : List UInt8 := [178, 0, 18, 153, 0, 18, 42, 180, 0, 22, 43, 182, 0, 40, 159, 0, 7, 42, 182, 0, 195, 177]
abbrev dktJ14_inflateIfNeededFor_0 : List UInt8 := dkwJ14_inflateIfNeededFor_0 ++ []
theorem dksJ14_inflateIfNeededFor_0 : cJ14_inflateIfNeededFor.data.toList.drop 0 = dktJ14_inflateIfNeededFor_0 := by decide +kernel
theorem dJ14_inflateIfNeededFor_0 : decode cJ14_inflateIfNeededFor 0 = .ok (.getstatic 18, 3) := dk_178 0 18 (dk_at dksJ14_inflateIfNeededFor_0 0 rfl rfl)
theorem dJ14_inflateIfNeededFor_3 : decode cJ14_inflateIfNeededFor 3 = .ok (.ifCond .eq 18, 3) := dk_153 0 18 (dk_at dksJ14_inflateIfNeededFor_0 3 rfl rfl)
theorem dJ14_inflateIfNeededFor_6 : decode cJ14_inflateIfNeededFor 6 = .ok (.aload_n 0, 1) := dk_42 (dk_at dksJ14_inflateIfNeededFor_0 6 rfl rfl)
theorem dJ14_inflateIfNeededFor_7 : decode cJ14_inflateIfNeededFor 7 = .ok (.getfield 22, 3) := dk_180 0 22 (dk_at dksJ14_inflateIfNeededFor_0 7 rfl rfl)
theorem dJ14_inflateIfNeededFor_10 : decode cJ14_inflateIfNeededFor 10 = .ok (.aload_n 1, 1) := dk_43 (dk_at dksJ14_inflateIfNeededFor_0 10 rfl rfl)
theorem dJ14_inflateIfNeededFor_11 : decode cJ14_inflateIfNeededFor 11 = .ok (.invokevirtual 40, 3) := dk_182 0 40 (dk_at dksJ14_inflateIfNeededFor_0 11 rfl rfl)
theorem dJ14_inflateIfNeededFor_14 : decode cJ14_inflateIfNeededFor 14 = .ok (.if_icmp .eq 7, 3) := dk_159 0 7 (dk_at dksJ14_inflateIfNeededFor_0 14 rfl rfl)
theorem dJ14_inflateIfNeededFor_17 : decode cJ14_inflateIfNeededFor 17 = .ok (.aload_n 0, 1) := dk_42 (dk_at dksJ14_inflateIfNeededFor_0 17 rfl rfl)
theorem dJ14_inflateIfNeededFor_18 : decode cJ14_inflateIfNeededFor 18 = .ok (.invokevirtual 195, 3) := dk_182 0 195 (dk_at dksJ14_inflateIfNeededFor_0 18 rfl rfl)
theorem dJ14_inflateIfNeededFor_21 : decode cJ14_inflateIfNeededFor 21 = .ok (.return_, 1) := dk_177 (dk_at dksJ14_inflateIfNeededFor_0 21 rfl rfl)
abbrev cJ14_inflate : ByteArray := prog_26_method_11_code
def yJ14_inflate : MethodName := ⟨RJ14, "inflate", "()V"⟩
def dkwJ14_inflate_1 : List UInt8 := [42, 180, 0, 79, 184, 0, 125, 42, 43, 181, 0, 15, 42, 4, 181, 0, 22, 177]
abbrev dktJ14_inflate_1 : List UInt8 := dkwJ14_inflate_1 ++ []
def dkwJ14_inflate_0 : List UInt8 := [42, 182, 0, 83, 154, 0, 4, 177, 42, 180, 0, 15, 190, 184, 0, 26, 76, 42, 180, 0, 15, 3, 43, 3]
abbrev dktJ14_inflate_0 : List UInt8 := dkwJ14_inflate_0 ++ dktJ14_inflate_1
theorem dksJ14_inflate_0 : cJ14_inflate.data.toList.drop 0 = dktJ14_inflate_0 := by decide +kernel
theorem dksJ14_inflate_1 : cJ14_inflate.data.toList.drop 24 = dktJ14_inflate_1 := dk_seg dksJ14_inflate_0 24 rfl rfl
theorem dJ14_inflate_0 : decode cJ14_inflate 0 = .ok (.aload_n 0, 1) := dk_42 (dk_at dksJ14_inflate_0 0 rfl rfl)
theorem dJ14_inflate_1 : decode cJ14_inflate 1 = .ok (.invokevirtual 83, 3) := dk_182 0 83 (dk_at dksJ14_inflate_0 1 rfl rfl)
theorem dJ14_inflate_4 : decode cJ14_inflate 4 = .ok (.ifCond .ne 4, 3) := dk_154 0 4 (dk_at dksJ14_inflate_0 4 rfl rfl)
theorem dJ14_inflate_7 : decode cJ14_inflate 7 = .ok (.return_, 1) := dk_177 (dk_at dksJ14_inflate_0 7 rfl rfl)
theorem dJ14_inflate_8 : decode cJ14_inflate 8 = .ok (.aload_n 0, 1) := dk_42 (dk_at dksJ14_inflate_0 8 rfl rfl)
theorem dJ14_inflate_9 : decode cJ14_inflate 9 = .ok (.getfield 15, 3) := dk_180 0 15 (dk_at dksJ14_inflate_0 9 rfl rfl)
theorem dJ14_inflate_12 : decode cJ14_inflate 12 = .ok (.arraylength, 1) := dk_190 (dk_at dksJ14_inflate_0 12 rfl rfl)
theorem dJ14_inflate_13 : decode cJ14_inflate 13 = .ok (.invokestatic 26, 3) := dk_184 0 26 (dk_at dksJ14_inflate_0 13 rfl rfl)
theorem dJ14_inflate_16 : decode cJ14_inflate 16 = .ok (.astore_n 1, 1) := dk_76 (dk_at dksJ14_inflate_0 16 rfl rfl)
theorem dJ14_inflate_17 : decode cJ14_inflate 17 = .ok (.aload_n 0, 1) := dk_42 (dk_at dksJ14_inflate_0 17 rfl rfl)
theorem dJ14_inflate_18 : decode cJ14_inflate 18 = .ok (.getfield 15, 3) := dk_180 0 15 (dk_at dksJ14_inflate_0 18 rfl rfl)
theorem dJ14_inflate_21 : decode cJ14_inflate 21 = .ok (.iconst 0, 1) := dk_3 (dk_at dksJ14_inflate_0 21 rfl rfl)
theorem dJ14_inflate_22 : decode cJ14_inflate 22 = .ok (.aload_n 1, 1) := dk_43 (dk_at dksJ14_inflate_0 22 rfl rfl)
theorem dJ14_inflate_23 : decode cJ14_inflate 23 = .ok (.iconst 0, 1) := dk_3 (dk_at dksJ14_inflate_0 23 rfl rfl)
theorem dJ14_inflate_24 : decode cJ14_inflate 24 = .ok (.aload_n 0, 1) := dk_42 (dk_at dksJ14_inflate_1 0 rfl rfl)
theorem dJ14_inflate_25 : decode cJ14_inflate 25 = .ok (.getfield 79, 3) := dk_180 0 79 (dk_at dksJ14_inflate_1 1 rfl rfl)
theorem dJ14_inflate_28 : decode cJ14_inflate 28 = .ok (.invokestatic 125, 3) := dk_184 0 125 (dk_at dksJ14_inflate_1 4 rfl rfl)
theorem dJ14_inflate_31 : decode cJ14_inflate 31 = .ok (.aload_n 0, 1) := dk_42 (dk_at dksJ14_inflate_1 7 rfl rfl)
theorem dJ14_inflate_32 : decode cJ14_inflate 32 = .ok (.aload_n 1, 1) := dk_43 (dk_at dksJ14_inflate_1 8 rfl rfl)
theorem dJ14_inflate_33 : decode cJ14_inflate 33 = .ok (.putfield 15, 3) := dk_181 0 15 (dk_at dksJ14_inflate_1 9 rfl rfl)
theorem dJ14_inflate_36 : decode cJ14_inflate 36 = .ok (.aload_n 0, 1) := dk_42 (dk_at dksJ14_inflate_1 12 rfl rfl)
theorem dJ14_inflate_37 : decode cJ14_inflate 37 = .ok (.iconst 1, 1) := dk_4 (dk_at dksJ14_inflate_1 13 rfl rfl)
theorem dJ14_inflate_38 : decode cJ14_inflate 38 = .ok (.putfield 22, 3) := dk_181 0 22 (dk_at dksJ14_inflate_1 14 rfl rfl)
theorem dJ14_inflate_41 : decode cJ14_inflate 41 = .ok (.return_, 1) := dk_177 (dk_at dksJ14_inflate_1 17 rfl rfl)
abbrev cJ14_append_2 : ByteArray := prog_26_method_32_code
def yJ14_append_2 : MethodName := ⟨RJ14, "append", "(I)Ljava/lang/AbstractStringBuilder;"⟩
def dkwJ14_append_2_2 : List UInt8 := [42, 29, 181, 0, 79, 42, 176]
abbrev dktJ14_append_2_2 : List UInt8 := dkwJ14_append_2_2 ++ []
def dkwJ14_append_2_1 : List UInt8 := [27, 29, 42, 180, 0, 15, 184, 0, 248, 87, 167, 0, 14, 27, 28, 29, 42, 180, 0, 15, 184, 0, 251, 87]
abbrev dktJ14_append_2_1 : List UInt8 := dkwJ14_append_2_1 ++ dktJ14_append_2_2
def dkwJ14_append_2_0 : List UInt8 := [42, 180, 0, 79, 61, 28, 27, 184, 0, 245, 96, 62, 42, 29, 182, 0, 100, 42, 182, 0, 83, 153, 0, 16]
abbrev dktJ14_append_2_0 : List UInt8 := dkwJ14_append_2_0 ++ dktJ14_append_2_1
theorem dksJ14_append_2_0 : cJ14_append_2.data.toList.drop 0 = dktJ14_append_2_0 := by decide +kernel
theorem dksJ14_append_2_1 : cJ14_append_2.data.toList.drop 24 = dktJ14_append_2_1 := dk_seg dksJ14_append_2_0 24 rfl rfl
theorem dksJ14_append_2_2 : cJ14_append_2.data.toList.drop 48 = dktJ14_append_2_2 := dk_seg dksJ14_append_2_1 24 rfl rfl
theorem dJ14_append_2_0 : decode cJ14_append_2 0 = .ok (.aload_n 0, 1) := dk_42 (dk_at dksJ14_append_2_0 0 rfl rfl)
theorem dJ14_append_2_1 : decode cJ14_append_2 1 = .ok (.getfield 79, 3) := dk_180 0 79 (dk_at dksJ14_append_2_0 1 rfl rfl)
theorem dJ14_append_2_4 : decode cJ14_append_2 4 = .ok (.istore_n 2, 1) := dk_61 (dk_at dksJ14_append_2_0 4 rfl rfl)
theorem dJ14_append_2_5 : decode cJ14_append_2 5 = .ok (.iload_n 2, 1) := dk_28 (dk_at dksJ14_append_2_0 5 rfl rfl)
theorem dJ14_append_2_6 : decode cJ14_append_2 6 = .ok (.iload_n 1, 1) := dk_27 (dk_at dksJ14_append_2_0 6 rfl rfl)
theorem dJ14_append_2_7 : decode cJ14_append_2 7 = .ok (.invokestatic 245, 3) := dk_184 0 245 (dk_at dksJ14_append_2_0 7 rfl rfl)
theorem dJ14_append_2_10 : decode cJ14_append_2 10 = .ok (.iadd, 1) := dk_96 (dk_at dksJ14_append_2_0 10 rfl rfl)
theorem dJ14_append_2_11 : decode cJ14_append_2 11 = .ok (.istore_n 3, 1) := dk_62 (dk_at dksJ14_append_2_0 11 rfl rfl)
theorem dJ14_append_2_12 : decode cJ14_append_2 12 = .ok (.aload_n 0, 1) := dk_42 (dk_at dksJ14_append_2_0 12 rfl rfl)
theorem dJ14_append_2_13 : decode cJ14_append_2 13 = .ok (.iload_n 3, 1) := dk_29 (dk_at dksJ14_append_2_0 13 rfl rfl)
theorem dJ14_append_2_14 : decode cJ14_append_2 14 = .ok (.invokevirtual 100, 3) := dk_182 0 100 (dk_at dksJ14_append_2_0 14 rfl rfl)
theorem dJ14_append_2_17 : decode cJ14_append_2 17 = .ok (.aload_n 0, 1) := dk_42 (dk_at dksJ14_append_2_0 17 rfl rfl)
theorem dJ14_append_2_18 : decode cJ14_append_2 18 = .ok (.invokevirtual 83, 3) := dk_182 0 83 (dk_at dksJ14_append_2_0 18 rfl rfl)
theorem dJ14_append_2_21 : decode cJ14_append_2 21 = .ok (.ifCond .eq 16, 3) := dk_153 0 16 (dk_at dksJ14_append_2_0 21 rfl rfl)
theorem dJ14_append_2_24 : decode cJ14_append_2 24 = .ok (.iload_n 1, 1) := dk_27 (dk_at dksJ14_append_2_1 0 rfl rfl)
theorem dJ14_append_2_25 : decode cJ14_append_2 25 = .ok (.iload_n 3, 1) := dk_29 (dk_at dksJ14_append_2_1 1 rfl rfl)
theorem dJ14_append_2_26 : decode cJ14_append_2 26 = .ok (.aload_n 0, 1) := dk_42 (dk_at dksJ14_append_2_1 2 rfl rfl)
theorem dJ14_append_2_27 : decode cJ14_append_2 27 = .ok (.getfield 15, 3) := dk_180 0 15 (dk_at dksJ14_append_2_1 3 rfl rfl)
theorem dJ14_append_2_30 : decode cJ14_append_2 30 = .ok (.invokestatic 248, 3) := dk_184 0 248 (dk_at dksJ14_append_2_1 6 rfl rfl)
theorem dJ14_append_2_33 : decode cJ14_append_2 33 = .ok (.pop, 1) := dk_87 (dk_at dksJ14_append_2_1 9 rfl rfl)
theorem dJ14_append_2_34 : decode cJ14_append_2 34 = .ok (.goto 14, 3) := dk_167 0 14 (dk_at dksJ14_append_2_1 10 rfl rfl)
theorem dJ14_append_2_37 : decode cJ14_append_2 37 = .ok (.iload_n 1, 1) := dk_27 (dk_at dksJ14_append_2_1 13 rfl rfl)
theorem dJ14_append_2_38 : decode cJ14_append_2 38 = .ok (.iload_n 2, 1) := dk_28 (dk_at dksJ14_append_2_1 14 rfl rfl)
theorem dJ14_append_2_39 : decode cJ14_append_2 39 = .ok (.iload_n 3, 1) := dk_29 (dk_at dksJ14_append_2_1 15 rfl rfl)
theorem dJ14_append_2_40 : decode cJ14_append_2 40 = .ok (.aload_n 0, 1) := dk_42 (dk_at dksJ14_append_2_1 16 rfl rfl)
theorem dJ14_append_2_41 : decode cJ14_append_2 41 = .ok (.getfield 15, 3) := dk_180 0 15 (dk_at dksJ14_append_2_1 17 rfl rfl)
theorem dJ14_append_2_44 : decode cJ14_append_2 44 = .ok (.invokestatic 251, 3) := dk_184 0 251 (dk_at dksJ14_append_2_1 20 rfl rfl)
theorem dJ14_append_2_47 : decode cJ14_append_2 47 = .ok (.pop, 1) := dk_87 (dk_at dksJ14_append_2_1 23 rfl rfl)
theorem dJ14_append_2_48 : decode cJ14_append_2 48 = .ok (.aload_n 0, 1) := dk_42 (dk_at dksJ14_append_2_2 0 rfl rfl)
theorem dJ14_append_2_49 : decode cJ14_append_2 49 = .ok (.iload_n 3, 1) := dk_29 (dk_at dksJ14_append_2_2 1 rfl rfl)
theorem dJ14_append_2_50 : decode cJ14_append_2 50 = .ok (.putfield 79, 3) := dk_181 0 79 (dk_at dksJ14_append_2_2 2 rfl rfl)
theorem dJ14_append_2_53 : decode cJ14_append_2 53 = .ok (.aload_n 0, 1) := dk_42 (dk_at dksJ14_append_2_2 5 rfl rfl)
theorem dJ14_append_2_54 : decode cJ14_append_2 54 = .ok (.areturn, 1) := dk_176 (dk_at dksJ14_append_2_2 6 rfl rfl)
abbrev cJ14_getValue : ByteArray := prog_26_method_64_code
def yJ14_getValue : MethodName := ⟨RJ14, "getValue", "()[B"⟩
theorem dJ14_getValue_0 : decode cJ14_getValue 0 = .ok (.aload_n 0, 1) := by decide +kernel
theorem dJ14_getValue_1 : decode cJ14_getValue 1 = .ok (.getfield 15, 3) := by decide +kernel
theorem dJ14_getValue_4 : decode cJ14_getValue 4 = .ok (.areturn, 1) := by decide +kernel
abbrev cJ14_length : ByteArray := prog_26_method_6_code
def yJ14_length : MethodName := ⟨RJ14, "length", "()I"⟩
theorem dJ14_length_0 : decode cJ14_length 0 = .ok (.aload_n 0, 1) := by decide +kernel
theorem dJ14_length_1 : decode cJ14_length 1 = .ok (.getfield 79, 3) := by decide +kernel
theorem dJ14_length_4 : decode cJ14_length 4 = .ok (.ireturn, 1) := by decide +kernel
abbrev cJ14_append_3 : ByteArray := prog_26_method_31_code
def yJ14_append_3 : MethodName := ⟨RJ14, "append", "(C)Ljava/lang/AbstractStringBuilder;"⟩
def dkwJ14_append_3_3 : List UInt8 := [181, 0, 79, 27, 184, 0, 197, 42, 176]
abbrev dktJ14_append_3_3 : List UInt8 := dkwJ14_append_3_3 ++ []
def dkwJ14_append_3_2 : List UInt8 := [182, 0, 83, 153, 0, 7, 42, 182, 0, 195, 42, 180, 0, 15, 42, 89, 180, 0, 79, 90, 4, 96]
abbrev dktJ14_append_3_2 : List UInt8 := dkwJ14_append_3_2 ++ dktJ14_append_3_3
def dkwJ14_append_3_1 : List UInt8 := [42, 180, 0, 15, 42, 89, 180, 0, 79, 90, 4, 96, 181, 0, 79, 27, 145, 84, 167, 0, 33, 42]
abbrev dktJ14_append_3_1 : List UInt8 := dkwJ14_append_3_1 ++ dktJ14_append_3_2
def dkwJ14_append_3_0 : List UInt8 := [42, 42, 180, 0, 79, 4, 96, 182, 0, 100, 42, 182, 0, 83, 153, 0, 31, 27, 184, 0, 191, 153, 0, 24]
abbrev dktJ14_append_3_0 : List UInt8 := dkwJ14_append_3_0 ++ dktJ14_append_3_1
theorem dksJ14_append_3_0 : cJ14_append_3.data.toList.drop 0 = dktJ14_append_3_0 := by decide +kernel
theorem dksJ14_append_3_1 : cJ14_append_3.data.toList.drop 24 = dktJ14_append_3_1 := dk_seg dksJ14_append_3_0 24 rfl rfl
theorem dksJ14_append_3_2 : cJ14_append_3.data.toList.drop 46 = dktJ14_append_3_2 := dk_seg dksJ14_append_3_1 22 rfl rfl
theorem dksJ14_append_3_3 : cJ14_append_3.data.toList.drop 68 = dktJ14_append_3_3 := dk_seg dksJ14_append_3_2 22 rfl rfl
theorem dJ14_append_3_0 : decode cJ14_append_3 0 = .ok (.aload_n 0, 1) := dk_42 (dk_at dksJ14_append_3_0 0 rfl rfl)
theorem dJ14_append_3_1 : decode cJ14_append_3 1 = .ok (.aload_n 0, 1) := dk_42 (dk_at dksJ14_append_3_0 1 rfl rfl)
theorem dJ14_append_3_2 : decode cJ14_append_3 2 = .ok (.getfield 79, 3) := dk_180 0 79 (dk_at dksJ14_append_3_0 2 rfl rfl)
theorem dJ14_append_3_5 : decode cJ14_append_3 5 = .ok (.iconst 1, 1) := dk_4 (dk_at dksJ14_append_3_0 5 rfl rfl)
theorem dJ14_append_3_6 : decode cJ14_append_3 6 = .ok (.iadd, 1) := dk_96 (dk_at dksJ14_append_3_0 6 rfl rfl)
theorem dJ14_append_3_7 : decode cJ14_append_3 7 = .ok (.invokevirtual 100, 3) := dk_182 0 100 (dk_at dksJ14_append_3_0 7 rfl rfl)
theorem dJ14_append_3_10 : decode cJ14_append_3 10 = .ok (.aload_n 0, 1) := dk_42 (dk_at dksJ14_append_3_0 10 rfl rfl)
theorem dJ14_append_3_11 : decode cJ14_append_3 11 = .ok (.invokevirtual 83, 3) := dk_182 0 83 (dk_at dksJ14_append_3_0 11 rfl rfl)
theorem dJ14_append_3_14 : decode cJ14_append_3 14 = .ok (.ifCond .eq 31, 3) := dk_153 0 31 (dk_at dksJ14_append_3_0 14 rfl rfl)
theorem dJ14_append_3_17 : decode cJ14_append_3 17 = .ok (.iload_n 1, 1) := dk_27 (dk_at dksJ14_append_3_0 17 rfl rfl)
theorem dJ14_append_3_18 : decode cJ14_append_3 18 = .ok (.invokestatic 191, 3) := dk_184 0 191 (dk_at dksJ14_append_3_0 18 rfl rfl)
theorem dJ14_append_3_21 : decode cJ14_append_3 21 = .ok (.ifCond .eq 24, 3) := dk_153 0 24 (dk_at dksJ14_append_3_0 21 rfl rfl)
theorem dJ14_append_3_24 : decode cJ14_append_3 24 = .ok (.aload_n 0, 1) := dk_42 (dk_at dksJ14_append_3_1 0 rfl rfl)
theorem dJ14_append_3_25 : decode cJ14_append_3 25 = .ok (.getfield 15, 3) := dk_180 0 15 (dk_at dksJ14_append_3_1 1 rfl rfl)
theorem dJ14_append_3_28 : decode cJ14_append_3 28 = .ok (.aload_n 0, 1) := dk_42 (dk_at dksJ14_append_3_1 4 rfl rfl)
theorem dJ14_append_3_29 : decode cJ14_append_3 29 = .ok (.dup, 1) := dk_89 (dk_at dksJ14_append_3_1 5 rfl rfl)
theorem dJ14_append_3_30 : decode cJ14_append_3 30 = .ok (.getfield 79, 3) := dk_180 0 79 (dk_at dksJ14_append_3_1 6 rfl rfl)
theorem dJ14_append_3_33 : decode cJ14_append_3 33 = .ok (.dup_x1, 1) := dk_90 (dk_at dksJ14_append_3_1 9 rfl rfl)
theorem dJ14_append_3_34 : decode cJ14_append_3 34 = .ok (.iconst 1, 1) := dk_4 (dk_at dksJ14_append_3_1 10 rfl rfl)
theorem dJ14_append_3_35 : decode cJ14_append_3 35 = .ok (.iadd, 1) := dk_96 (dk_at dksJ14_append_3_1 11 rfl rfl)
theorem dJ14_append_3_36 : decode cJ14_append_3 36 = .ok (.putfield 79, 3) := dk_181 0 79 (dk_at dksJ14_append_3_1 12 rfl rfl)
theorem dJ14_append_3_39 : decode cJ14_append_3 39 = .ok (.iload_n 1, 1) := dk_27 (dk_at dksJ14_append_3_1 15 rfl rfl)
theorem dJ14_append_3_40 : decode cJ14_append_3 40 = .ok (.i2b, 1) := dk_145 (dk_at dksJ14_append_3_1 16 rfl rfl)
theorem dJ14_append_3_41 : decode cJ14_append_3 41 = .ok (.bastore, 1) := dk_84 (dk_at dksJ14_append_3_1 17 rfl rfl)
theorem dJ14_append_3_42 : decode cJ14_append_3 42 = .ok (.goto 33, 3) := dk_167 0 33 (dk_at dksJ14_append_3_1 18 rfl rfl)
theorem dJ14_append_3_45 : decode cJ14_append_3 45 = .ok (.aload_n 0, 1) := dk_42 (dk_at dksJ14_append_3_1 21 rfl rfl)
theorem dJ14_append_3_46 : decode cJ14_append_3 46 = .ok (.invokevirtual 83, 3) := dk_182 0 83 (dk_at dksJ14_append_3_2 0 rfl rfl)
theorem dJ14_append_3_49 : decode cJ14_append_3 49 = .ok (.ifCond .eq 7, 3) := dk_153 0 7 (dk_at dksJ14_append_3_2 3 rfl rfl)
theorem dJ14_append_3_52 : decode cJ14_append_3 52 = .ok (.aload_n 0, 1) := dk_42 (dk_at dksJ14_append_3_2 6 rfl rfl)
theorem dJ14_append_3_53 : decode cJ14_append_3 53 = .ok (.invokevirtual 195, 3) := dk_182 0 195 (dk_at dksJ14_append_3_2 7 rfl rfl)
theorem dJ14_append_3_56 : decode cJ14_append_3 56 = .ok (.aload_n 0, 1) := dk_42 (dk_at dksJ14_append_3_2 10 rfl rfl)
theorem dJ14_append_3_57 : decode cJ14_append_3 57 = .ok (.getfield 15, 3) := dk_180 0 15 (dk_at dksJ14_append_3_2 11 rfl rfl)
theorem dJ14_append_3_60 : decode cJ14_append_3 60 = .ok (.aload_n 0, 1) := dk_42 (dk_at dksJ14_append_3_2 14 rfl rfl)
theorem dJ14_append_3_61 : decode cJ14_append_3 61 = .ok (.dup, 1) := dk_89 (dk_at dksJ14_append_3_2 15 rfl rfl)
theorem dJ14_append_3_62 : decode cJ14_append_3 62 = .ok (.getfield 79, 3) := dk_180 0 79 (dk_at dksJ14_append_3_2 16 rfl rfl)
theorem dJ14_append_3_65 : decode cJ14_append_3 65 = .ok (.dup_x1, 1) := dk_90 (dk_at dksJ14_append_3_2 19 rfl rfl)
theorem dJ14_append_3_66 : decode cJ14_append_3 66 = .ok (.iconst 1, 1) := dk_4 (dk_at dksJ14_append_3_2 20 rfl rfl)
theorem dJ14_append_3_67 : decode cJ14_append_3 67 = .ok (.iadd, 1) := dk_96 (dk_at dksJ14_append_3_2 21 rfl rfl)
theorem dJ14_append_3_68 : decode cJ14_append_3 68 = .ok (.putfield 79, 3) := dk_181 0 79 (dk_at dksJ14_append_3_3 0 rfl rfl)
theorem dJ14_append_3_71 : decode cJ14_append_3 71 = .ok (.iload_n 1, 1) := dk_27 (dk_at dksJ14_append_3_3 3 rfl rfl)
theorem dJ14_append_3_72 : decode cJ14_append_3 72 = .ok (.invokestatic 197, 3) := dk_184 0 197 (dk_at dksJ14_append_3_3 4 rfl rfl)
theorem dJ14_append_3_75 : decode cJ14_append_3 75 = .ok (.aload_n 0, 1) := dk_42 (dk_at dksJ14_append_3_3 7 rfl rfl)
theorem dJ14_append_3_76 : decode cJ14_append_3 76 = .ok (.areturn, 1) := dk_176 (dk_at dksJ14_append_3_3 8 rfl rfl)
abbrev cJ14_compareTo : ByteArray := prog_26_method_5_code
def yJ14_compareTo : MethodName := ⟨RJ14, "compareTo", "(Ljava/lang/AbstractStringBuilder;)I"⟩
def dkwJ14_compareTo_4 : List UInt8 := [184, 0, 97, 172]
abbrev dktJ14_compareTo_4 : List UInt8 := dkwJ14_compareTo_4 ++ []
def dkwJ14_compareTo_3 : List UInt8 := [182, 0, 83, 153, 0, 15, 44, 45, 21, 4, 21, 5, 184, 0, 94, 167, 0, 12, 44, 45, 21, 4, 21, 5]
abbrev dktJ14_compareTo_3 : List UInt8 := dkwJ14_compareTo_3 ++ dktJ14_compareTo_4
def dkwJ14_compareTo_2 : List UInt8 := [45, 21, 4, 21, 5, 184, 0, 87, 167, 0, 12, 44, 45, 21, 4, 21, 5, 184, 0, 93, 172, 42]
abbrev dktJ14_compareTo_2 : List UInt8 := dkwJ14_compareTo_2 ++ dktJ14_compareTo_3
def dkwJ14_compareTo_1 : List UInt8 := [180, 0, 79, 54, 5, 42, 180, 0, 22, 43, 180, 0, 22, 160, 0, 32, 42, 182, 0, 83, 153, 0, 15, 44]
abbrev dktJ14_compareTo_1 : List UInt8 := dkwJ14_compareTo_1 ++ dktJ14_compareTo_2
def dkwJ14_compareTo_0 : List UInt8 := [42, 43, 166, 0, 5, 3, 172, 42, 180, 0, 15, 77, 43, 180, 0, 15, 78, 42, 180, 0, 79, 54, 4, 43]
abbrev dktJ14_compareTo_0 : List UInt8 := dkwJ14_compareTo_0 ++ dktJ14_compareTo_1
theorem dksJ14_compareTo_0 : cJ14_compareTo.data.toList.drop 0 = dktJ14_compareTo_0 := by decide +kernel
theorem dksJ14_compareTo_1 : cJ14_compareTo.data.toList.drop 24 = dktJ14_compareTo_1 := dk_seg dksJ14_compareTo_0 24 rfl rfl
theorem dksJ14_compareTo_2 : cJ14_compareTo.data.toList.drop 48 = dktJ14_compareTo_2 := dk_seg dksJ14_compareTo_1 24 rfl rfl
theorem dksJ14_compareTo_3 : cJ14_compareTo.data.toList.drop 70 = dktJ14_compareTo_3 := dk_seg dksJ14_compareTo_2 22 rfl rfl
theorem dksJ14_compareTo_4 : cJ14_compareTo.data.toList.drop 94 = dktJ14_compareTo_4 := dk_seg dksJ14_compareTo_3 24 rfl rfl
theorem dJ14_compareTo_0 : decode cJ14_compareTo 0 = .ok (.aload_n 0, 1) := dk_42 (dk_at dksJ14_compareTo_0 0 rfl rfl)
theorem dJ14_compareTo_1 : decode cJ14_compareTo 1 = .ok (.aload_n 1, 1) := dk_43 (dk_at dksJ14_compareTo_0 1 rfl rfl)
theorem dJ14_compareTo_2 : decode cJ14_compareTo 2 = .ok (.if_acmp .ne 5, 3) := dk_166 0 5 (dk_at dksJ14_compareTo_0 2 rfl rfl)
theorem dJ14_compareTo_5 : decode cJ14_compareTo 5 = .ok (.iconst 0, 1) := dk_3 (dk_at dksJ14_compareTo_0 5 rfl rfl)
theorem dJ14_compareTo_6 : decode cJ14_compareTo 6 = .ok (.ireturn, 1) := dk_172 (dk_at dksJ14_compareTo_0 6 rfl rfl)
theorem dJ14_compareTo_7 : decode cJ14_compareTo 7 = .ok (.aload_n 0, 1) := dk_42 (dk_at dksJ14_compareTo_0 7 rfl rfl)
theorem dJ14_compareTo_8 : decode cJ14_compareTo 8 = .ok (.getfield 15, 3) := dk_180 0 15 (dk_at dksJ14_compareTo_0 8 rfl rfl)
theorem dJ14_compareTo_11 : decode cJ14_compareTo 11 = .ok (.astore_n 2, 1) := dk_77 (dk_at dksJ14_compareTo_0 11 rfl rfl)
theorem dJ14_compareTo_12 : decode cJ14_compareTo 12 = .ok (.aload_n 1, 1) := dk_43 (dk_at dksJ14_compareTo_0 12 rfl rfl)
theorem dJ14_compareTo_13 : decode cJ14_compareTo 13 = .ok (.getfield 15, 3) := dk_180 0 15 (dk_at dksJ14_compareTo_0 13 rfl rfl)
theorem dJ14_compareTo_16 : decode cJ14_compareTo 16 = .ok (.astore_n 3, 1) := dk_78 (dk_at dksJ14_compareTo_0 16 rfl rfl)
theorem dJ14_compareTo_17 : decode cJ14_compareTo 17 = .ok (.aload_n 0, 1) := dk_42 (dk_at dksJ14_compareTo_0 17 rfl rfl)
theorem dJ14_compareTo_18 : decode cJ14_compareTo 18 = .ok (.getfield 79, 3) := dk_180 0 79 (dk_at dksJ14_compareTo_0 18 rfl rfl)
theorem dJ14_compareTo_21 : decode cJ14_compareTo 21 = .ok (.istore 4, 2) := dk_54 4 (dk_at dksJ14_compareTo_0 21 rfl rfl)
theorem dJ14_compareTo_23 : decode cJ14_compareTo 23 = .ok (.aload_n 1, 1) := dk_43 (dk_at dksJ14_compareTo_0 23 rfl rfl)
theorem dJ14_compareTo_24 : decode cJ14_compareTo 24 = .ok (.getfield 79, 3) := dk_180 0 79 (dk_at dksJ14_compareTo_1 0 rfl rfl)
theorem dJ14_compareTo_27 : decode cJ14_compareTo 27 = .ok (.istore 5, 2) := dk_54 5 (dk_at dksJ14_compareTo_1 3 rfl rfl)
theorem dJ14_compareTo_29 : decode cJ14_compareTo 29 = .ok (.aload_n 0, 1) := dk_42 (dk_at dksJ14_compareTo_1 5 rfl rfl)
theorem dJ14_compareTo_30 : decode cJ14_compareTo 30 = .ok (.getfield 22, 3) := dk_180 0 22 (dk_at dksJ14_compareTo_1 6 rfl rfl)
theorem dJ14_compareTo_33 : decode cJ14_compareTo 33 = .ok (.aload_n 1, 1) := dk_43 (dk_at dksJ14_compareTo_1 9 rfl rfl)
theorem dJ14_compareTo_34 : decode cJ14_compareTo 34 = .ok (.getfield 22, 3) := dk_180 0 22 (dk_at dksJ14_compareTo_1 10 rfl rfl)
theorem dJ14_compareTo_37 : decode cJ14_compareTo 37 = .ok (.if_icmp .ne 32, 3) := dk_160 0 32 (dk_at dksJ14_compareTo_1 13 rfl rfl)
theorem dJ14_compareTo_40 : decode cJ14_compareTo 40 = .ok (.aload_n 0, 1) := dk_42 (dk_at dksJ14_compareTo_1 16 rfl rfl)
theorem dJ14_compareTo_41 : decode cJ14_compareTo 41 = .ok (.invokevirtual 83, 3) := dk_182 0 83 (dk_at dksJ14_compareTo_1 17 rfl rfl)
theorem dJ14_compareTo_44 : decode cJ14_compareTo 44 = .ok (.ifCond .eq 15, 3) := dk_153 0 15 (dk_at dksJ14_compareTo_1 20 rfl rfl)
theorem dJ14_compareTo_47 : decode cJ14_compareTo 47 = .ok (.aload_n 2, 1) := dk_44 (dk_at dksJ14_compareTo_1 23 rfl rfl)
theorem dJ14_compareTo_48 : decode cJ14_compareTo 48 = .ok (.aload_n 3, 1) := dk_45 (dk_at dksJ14_compareTo_2 0 rfl rfl)
theorem dJ14_compareTo_49 : decode cJ14_compareTo 49 = .ok (.iload 4, 2) := dk_21 4 (dk_at dksJ14_compareTo_2 1 rfl rfl)
theorem dJ14_compareTo_51 : decode cJ14_compareTo 51 = .ok (.iload 5, 2) := dk_21 5 (dk_at dksJ14_compareTo_2 3 rfl rfl)
theorem dJ14_compareTo_53 : decode cJ14_compareTo 53 = .ok (.invokestatic 87, 3) := dk_184 0 87 (dk_at dksJ14_compareTo_2 5 rfl rfl)
theorem dJ14_compareTo_56 : decode cJ14_compareTo 56 = .ok (.goto 12, 3) := dk_167 0 12 (dk_at dksJ14_compareTo_2 8 rfl rfl)
theorem dJ14_compareTo_59 : decode cJ14_compareTo 59 = .ok (.aload_n 2, 1) := dk_44 (dk_at dksJ14_compareTo_2 11 rfl rfl)
theorem dJ14_compareTo_60 : decode cJ14_compareTo 60 = .ok (.aload_n 3, 1) := dk_45 (dk_at dksJ14_compareTo_2 12 rfl rfl)
theorem dJ14_compareTo_61 : decode cJ14_compareTo 61 = .ok (.iload 4, 2) := dk_21 4 (dk_at dksJ14_compareTo_2 13 rfl rfl)
theorem dJ14_compareTo_63 : decode cJ14_compareTo 63 = .ok (.iload 5, 2) := dk_21 5 (dk_at dksJ14_compareTo_2 15 rfl rfl)
theorem dJ14_compareTo_65 : decode cJ14_compareTo 65 = .ok (.invokestatic 93, 3) := dk_184 0 93 (dk_at dksJ14_compareTo_2 17 rfl rfl)
theorem dJ14_compareTo_68 : decode cJ14_compareTo 68 = .ok (.ireturn, 1) := dk_172 (dk_at dksJ14_compareTo_2 20 rfl rfl)
theorem dJ14_compareTo_69 : decode cJ14_compareTo 69 = .ok (.aload_n 0, 1) := dk_42 (dk_at dksJ14_compareTo_2 21 rfl rfl)
theorem dJ14_compareTo_70 : decode cJ14_compareTo 70 = .ok (.invokevirtual 83, 3) := dk_182 0 83 (dk_at dksJ14_compareTo_3 0 rfl rfl)
theorem dJ14_compareTo_73 : decode cJ14_compareTo 73 = .ok (.ifCond .eq 15, 3) := dk_153 0 15 (dk_at dksJ14_compareTo_3 3 rfl rfl)
theorem dJ14_compareTo_76 : decode cJ14_compareTo 76 = .ok (.aload_n 2, 1) := dk_44 (dk_at dksJ14_compareTo_3 6 rfl rfl)
theorem dJ14_compareTo_77 : decode cJ14_compareTo 77 = .ok (.aload_n 3, 1) := dk_45 (dk_at dksJ14_compareTo_3 7 rfl rfl)
theorem dJ14_compareTo_78 : decode cJ14_compareTo 78 = .ok (.iload 4, 2) := dk_21 4 (dk_at dksJ14_compareTo_3 8 rfl rfl)
theorem dJ14_compareTo_80 : decode cJ14_compareTo 80 = .ok (.iload 5, 2) := dk_21 5 (dk_at dksJ14_compareTo_3 10 rfl rfl)
theorem dJ14_compareTo_82 : decode cJ14_compareTo 82 = .ok (.invokestatic 94, 3) := dk_184 0 94 (dk_at dksJ14_compareTo_3 12 rfl rfl)
theorem dJ14_compareTo_85 : decode cJ14_compareTo 85 = .ok (.goto 12, 3) := dk_167 0 12 (dk_at dksJ14_compareTo_3 15 rfl rfl)
theorem dJ14_compareTo_88 : decode cJ14_compareTo 88 = .ok (.aload_n 2, 1) := dk_44 (dk_at dksJ14_compareTo_3 18 rfl rfl)
theorem dJ14_compareTo_89 : decode cJ14_compareTo 89 = .ok (.aload_n 3, 1) := dk_45 (dk_at dksJ14_compareTo_3 19 rfl rfl)
theorem dJ14_compareTo_90 : decode cJ14_compareTo 90 = .ok (.iload 4, 2) := dk_21 4 (dk_at dksJ14_compareTo_3 20 rfl rfl)
theorem dJ14_compareTo_92 : decode cJ14_compareTo 92 = .ok (.iload 5, 2) := dk_21 5 (dk_at dksJ14_compareTo_3 22 rfl rfl)
theorem dJ14_compareTo_94 : decode cJ14_compareTo 94 = .ok (.invokestatic 97, 3) := dk_184 0 97 (dk_at dksJ14_compareTo_4 0 rfl rfl)
theorem dJ14_compareTo_97 : decode cJ14_compareTo 97 = .ok (.ireturn, 1) := dk_172 (dk_at dksJ14_compareTo_4 3 rfl rfl)
theorem q117 : (Jvm.Cond.initialized "java/lang/AbstractStringBuilder") ∈ lw_all := lw_g (lw_at lw_m1 21 rfl) rfl
theorem q611 : (Jvm.Cond.instanceMethod ({ cls := "java/lang/AbstractStringBuilder", name := "<init>", desc := "(I)V" } : Jvm.MethodName)) ∈ lw_all := lw_g (lw_at lw_m3 35 rfl) rfl
theorem q612 : (Jvm.Cond.code ({ cls := "java/lang/AbstractStringBuilder", name := "<init>", desc := "(I)V" } : Jvm.MethodName) prog_26_method_2_code (2 : Nat) (Option.none : Option Jvm.ClassFile.FieldType)) ∈ lw_all := lw_g (lw_at lw_m3 36 rfl) rfl
theorem q613 : (Jvm.Cond.methodLink "java/lang/AbstractStringBuilder" (3 : Nat) ({ cls := "java/lang/Object", name := "<init>", desc := "()V" } : Jvm.MethodName)) ∈ lw_all := lw_g (lw_at lw_m3 37 rfl) rfl
theorem q614 : (Jvm.Cond.fieldLink "java/lang/AbstractStringBuilder" (18 : Nat) "java/lang/String" "COMPACT_STRINGS" "Z") ∈ lw_all := lw_g (lw_at lw_m3 38 rfl) rfl
theorem q616 : (Jvm.Cond.methodLink "java/lang/AbstractStringBuilder" (26 : Nat) ({ cls := "java/lang/StringUTF16", name := "newBytesFor", desc := "(I)[B" } : Jvm.MethodName)) ∈ lw_all := lw_g (lw_at lw_m3 40 rfl) rfl
theorem q628 : (Jvm.Cond.fieldLink "java/lang/AbstractStringBuilder" (15 : Nat) "java/lang/AbstractStringBuilder" "value" "[B") ∈ lw_all := lw_g (lw_at lw_m3 52 rfl) rfl
theorem q629 : (Jvm.Cond.fieldLink "java/lang/AbstractStringBuilder" (22 : Nat) "java/lang/AbstractStringBuilder" "coder" "B") ∈ lw_all := lw_g (lw_at lw_m3 53 rfl) rfl
theorem q631 : (Jvm.Cond.fieldLink "java/lang/AbstractStringBuilder" (79 : Nat) "java/lang/AbstractStringBuilder" "count" "I") ∈ lw_all := lw_g (lw_at lw_m3 55 rfl) rfl
theorem q633 : (Jvm.Cond.soleField "java/lang/AbstractStringBuilder" "value") ∈ lw_all := lw_g (lw_at lw_m3 57 rfl) rfl
theorem q635 : (Jvm.Cond.soleField "java/lang/AbstractStringBuilder" "coder") ∈ lw_all := lw_g (lw_at lw_m3 59 rfl) rfl
theorem q637 : (Jvm.Cond.soleField "java/lang/AbstractStringBuilder" "maybeLatin1") ∈ lw_all := lw_g (lw_at lw_m3 61 rfl) rfl
theorem q639 : (Jvm.Cond.soleField "java/lang/AbstractStringBuilder" "count") ∈ lw_all := lw_g (lw_at lw_m3 63 rfl) rfl
theorem q647 : (Jvm.Cond.instanceMethod ({ cls := "java/lang/AbstractStringBuilder", name := "append", desc := "(Ljava/lang/String;)Ljava/lang/AbstractStringBuilder;" } : Jvm.MethodName)) ∈ lw_all := lw_g (lw_at lw_m3 71 rfl) rfl
theorem q648 : (Jvm.Cond.code ({ cls := "java/lang/AbstractStringBuilder", name := "append", desc := "(Ljava/lang/String;)Ljava/lang/AbstractStringBuilder;" } : Jvm.MethodName) prog_26_method_22_code (3 : Nat) (Option.some (Jvm.ClassFile.FieldType.object "java/lang/AbstractStringBuilder"))) ∈ lw_all := lw_g (lw_at lw_m3 72 rfl) rfl
theorem q649 : (Jvm.Cond.methodLink "java/lang/AbstractStringBuilder" (204 : Nat) ({ cls := "java/lang/AbstractStringBuilder", name := "appendNull", desc := "()Ljava/lang/AbstractStringBuilder;" } : Jvm.MethodName)) ∈ lw_all := lw_g (lw_at lw_m3 73 rfl) rfl
theorem q650 : (Jvm.Cond.privateMethod ({ cls := "java/lang/AbstractStringBuilder", name := "appendNull", desc := "()Ljava/lang/AbstractStringBuilder;" } : Jvm.MethodName)) ∈ lw_tbl := lw_at lw_m3 74 rfl
theorem q651 : (Jvm.Cond.instanceMethod ({ cls := "java/lang/AbstractStringBuilder", name := "appendNull", desc := "()Ljava/lang/AbstractStringBuilder;" } : Jvm.MethodName)) ∈ lw_all := lw_g (lw_at lw_m3 75 rfl) rfl
theorem q652 : (Jvm.Cond.code ({ cls := "java/lang/AbstractStringBuilder", name := "appendNull", desc := "()Ljava/lang/AbstractStringBuilder;" } : Jvm.MethodName) prog_26_method_26_code (3 : Nat) (Option.some (Jvm.ClassFile.FieldType.object "java/lang/AbstractStringBuilder"))) ∈ lw_all := lw_g (lw_at lw_m3 76 rfl) rfl
theorem q653 : (Jvm.Cond.methodLink "java/lang/AbstractStringBuilder" (100 : Nat) ({ cls := "java/lang/AbstractStringBuilder", name := "ensureCapacityInternal", desc := "(I)V" } : Jvm.MethodName)) ∈ lw_all := lw_g (lw_at lw_m3 77 rfl) rfl
theorem q654 : (Jvm.Cond.privateMethod ({ cls := "java/lang/AbstractStringBuilder", name := "ensureCapacityInternal", desc := "(I)V" } : Jvm.MethodName)) ∈ lw_tbl := lw_at lw_m3 78 rfl
theorem q655 : (Jvm.Cond.instanceMethod ({ cls := "java/lang/AbstractStringBuilder", name := "ensureCapacityInternal", desc := "(I)V" } : Jvm.MethodName)) ∈ lw_all := lw_g (lw_at lw_m3 79 rfl) rfl
theorem q656 : (Jvm.Cond.code ({ cls := "java/lang/AbstractStringBuilder", name := "ensureCapacityInternal", desc := "(I)V" } : Jvm.MethodName) prog_26_method_9_code (3 : Nat) (Option.none : Option Jvm.ClassFile.FieldType)) ∈ lw_all := lw_g (lw_at lw_m3 80 rfl) rfl
theorem q657 : (Jvm.Cond.methodLink "java/lang/AbstractStringBuilder" (104 : Nat) ({ cls := "java/lang/AbstractStringBuilder", name := "newCapacity", desc := "(I)I" } : Jvm.MethodName)) ∈ lw_all := lw_g (lw_at lw_m3 81 rfl) rfl
theorem q658 : (Jvm.Cond.privateMethod ({ cls := "java/lang/AbstractStringBuilder", name := "newCapacity", desc := "(I)I" } : Jvm.MethodName)) ∈ lw_tbl := lw_at lw_m3 82 rfl
theorem q659 : (Jvm.Cond.instanceMethod ({ cls := "java/lang/AbstractStringBuilder", name := "newCapacity", desc := "(I)I" } : Jvm.MethodName)) ∈ lw_all := lw_g (lw_at lw_m3 83 rfl) rfl
theorem q660 : (Jvm.Cond.code ({ cls := "java/lang/AbstractStringBuilder", name := "newCapacity", desc := "(I)I" } : Jvm.MethodName) prog_26_method_10_code (6 : Nat) (Option.some Jvm.ClassFile.FieldType.int)) ∈ lw_all := lw_g (lw_at lw_m3 84 rfl) rfl
theorem q661 : (Jvm.Cond.methodLink "java/lang/AbstractStringBuilder" (114 : Nat) ({ cls := "jdk/internal/util/ArraysSupport", name := "newLength", desc := "(III)I" } : Jvm.MethodName)) ∈ lw_all := lw_g (lw_at lw_m3 85 rfl) rfl
theorem q671 : (Jvm.Cond.constant "java/lang/AbstractStringBuilder" (39 : Nat) (2147483647 : Int32)) ∈ lw_all := lw_g (lw_at lw_m3 95 rfl) rfl
theorem q672 : (Jvm.Cond.methodLink "java/lang/AbstractStringBuilder" (108 : Nat) ({ cls := "java/util/Arrays", name := "copyOf", desc := "([BI)[B" } : Jvm.MethodName)) ∈ lw_all := lw_g (lw_at lw_m3 96 rfl) rfl
theorem q686 : (Jvm.Cond.methodLink "java/lang/AbstractStringBuilder" (83 : Nat) ({ cls := "java/lang/AbstractStringBuilder", name := "isLatin1", desc := "()Z" } : Jvm.MethodName)) ∈ lw_all := lw_g (lw_at lw_m3 110 rfl) rfl
theorem q687 : (Jvm.Cond.instanceMethod ({ cls := "java/lang/AbstractStringBuilder", name := "isLatin1", desc := "()Z" } : Jvm.MethodName)) ∈ lw_all := lw_g (lw_at lw_m3 111 rfl) rfl
theorem q688 : (Jvm.Cond.sameMethod "java/lang/AbstractStringBuilder" "java/lang/AbstractStringBuilder" "isLatin1" "()Z") ∈ lw_all := lw_g (lw_at lw_m3 112 rfl) rfl
theorem q690 : (Jvm.Cond.code ({ cls := "java/lang/AbstractStringBuilder", name := "isLatin1", desc := "()Z" } : Jvm.MethodName) prog_26_method_68_code (1 : Nat) (Option.some Jvm.ClassFile.FieldType.boolean)) ∈ lw_all := lw_g (lw_at lw_m3 114 rfl) rfl
theorem q691 : (Jvm.Cond.methodLink "java/lang/AbstractStringBuilder" (226 : Nat) ({ cls := "java/lang/StringUTF16", name := "putCharsAt", desc := "([BICCCC)I" } : Jvm.MethodName)) ∈ lw_all := lw_g (lw_at lw_m3 115 rfl) rfl
theorem q717 : (Jvm.Cond.methodLink "java/lang/AbstractStringBuilder" (32 : Nat) ({ cls := "java/lang/String", name := "length", desc := "()I" } : Jvm.MethodName)) ∈ lw_all := lw_g (lw_at lw_m3 141 rfl) rfl
theorem q726 : (Jvm.Cond.methodLink "java/lang/AbstractStringBuilder" (208 : Nat) ({ cls := "java/lang/AbstractStringBuilder", name := "putStringAt", desc := "(ILjava/lang/String;)V" } : Jvm.MethodName)) ∈ lw_all := lw_g (lw_at lw_m3 150 rfl) rfl
theorem q727 : (Jvm.Cond.privateMethod ({ cls := "java/lang/AbstractStringBuilder", name := "putStringAt", desc := "(ILjava/lang/String;)V" } : Jvm.MethodName)) ∈ lw_tbl := lw_at lw_m3 151 rfl
theorem q728 : (Jvm.Cond.instanceMethod ({ cls := "java/lang/AbstractStringBuilder", name := "putStringAt", desc := "(ILjava/lang/String;)V" } : Jvm.MethodName)) ∈ lw_all := lw_g (lw_at lw_m3 152 rfl) rfl
theorem q729 : (Jvm.Cond.code ({ cls := "java/lang/AbstractStringBuilder", name := "putStringAt", desc := "(ILjava/lang/String;)V" } : Jvm.MethodName) prog_26_method_73_code (3 : Nat) (Option.none : Option Jvm.ClassFile.FieldType)) ∈ lw_all := lw_g (lw_at lw_m3 153 rfl) rfl
theorem q730 : (Jvm.Cond.methodLink "java/lang/AbstractStringBuilder" (397 : Nat) ({ cls := "java/lang/AbstractStringBuilder", name := "inflateIfNeededFor", desc := "(Ljava/lang/String;)V" } : Jvm.MethodName)) ∈ lw_all := lw_g (lw_at lw_m3 154 rfl) rfl
theorem q731 : (Jvm.Cond.privateMethod ({ cls := "java/lang/AbstractStringBuilder", name := "inflateIfNeededFor", desc := "(Ljava/lang/String;)V" } : Jvm.MethodName)) ∈ lw_tbl := lw_at lw_m3 155 rfl
theorem q732 : (Jvm.Cond.instanceMethod ({ cls := "java/lang/AbstractStringBuilder", name := "inflateIfNeededFor", desc := "(Ljava/lang/String;)V" } : Jvm.MethodName)) ∈ lw_all := lw_g (lw_at lw_m3 156 rfl) rfl
theorem q733 : (Jvm.Cond.code ({ cls := "java/lang/AbstractStringBuilder", name := "inflateIfNeededFor", desc := "(Ljava/lang/String;)V" } : Jvm.MethodName) prog_26_method_71_code (2 : Nat) (Option.none : Option Jvm.ClassFile.FieldType)) ∈ lw_all := lw_g (lw_at lw_m3 157 rfl) rfl
theorem q734 : (Jvm.Cond.methodLink "java/lang/AbstractStringBuilder" (40 : Nat) ({ cls := "java/lang/String", name := "coder", desc := "()B" } : Jvm.MethodName)) ∈ lw_all := lw_g (lw_at lw_m3 158 rfl) rfl
theorem q735 : (Jvm.Cond.methodLink "java/lang/AbstractStringBuilder" (195 : Nat) ({ cls := "java/lang/AbstractStringBuilder", name := "inflate", desc := "()V" } : Jvm.MethodName)) ∈ lw_all := lw_g (lw_at lw_m3 159 rfl) rfl
theorem q736 : (Jvm.Cond.privateMethod ({ cls := "java/lang/AbstractStringBuilder", name := "inflate", desc := "()V" } : Jvm.MethodName)) ∈ lw_tbl := lw_at lw_m3 160 rfl
theorem q737 : (Jvm.Cond.instanceMethod ({ cls := "java/lang/AbstractStringBuilder", name := "inflate", desc := "()V" } : Jvm.MethodName)) ∈ lw_all := lw_g (lw_at lw_m3 161 rfl) rfl
theorem q738 : (Jvm.Cond.code ({ cls := "java/lang/AbstractStringBuilder", name := "inflate", desc := "()V" } : Jvm.MethodName) prog_26_method_11_code (2 : Nat) (Option.none : Option Jvm.ClassFile.FieldType)) ∈ lw_all := lw_g (lw_at lw_m3 162 rfl) rfl
theorem q739 : (Jvm.Cond.methodLink "java/lang/AbstractStringBuilder" (125 : Nat) ({ cls := "java/lang/StringLatin1", name := "inflate", desc := "([BI[BII)V" } : Jvm.MethodName)) ∈ lw_all := lw_g (lw_at lw_m3 163 rfl) rfl
theorem q754 : (Jvm.Cond.methodLink "java/lang/AbstractStringBuilder" (399 : Nat) ({ cls := "java/lang/String", name := "getBytes", desc := "([BIB)V" } : Jvm.MethodName)) ∈ lw_all := lw_g (lw_at lw_m3 178 rfl) rfl
theorem q765 : (Jvm.Cond.instanceMethod ({ cls := "java/lang/AbstractStringBuilder", name := "append", desc := "(I)Ljava/lang/AbstractStringBuilder;" } : Jvm.MethodName)) ∈ lw_all := lw_g (lw_at lw_m3 189 rfl) rfl
theorem q766 : (Jvm.Cond.code ({ cls := "java/lang/AbstractStringBuilder", name := "append", desc := "(I)Ljava/lang/AbstractStringBuilder;" } : Jvm.MethodName) prog_26_method_32_code (4 : Nat) (Option.some (Jvm.ClassFile.FieldType.object "java/lang/AbstractStringBuilder"))) ∈ lw_all := lw_g (lw_at lw_m3 190 rfl) rfl
theorem q767 : (Jvm.Cond.methodLink "java/lang/AbstractStringBuilder" (245 : Nat) ({ cls := "java/lang/Integer", name := "stringSize", desc := "(I)I" } : Jvm.MethodName)) ∈ lw_all := lw_g (lw_at lw_m3 191 rfl) rfl
theorem q770 : (Jvm.Cond.methodLink "java/lang/AbstractStringBuilder" (248 : Nat) ({ cls := "java/lang/Integer", name := "getChars", desc := "(II[B)I" } : Jvm.MethodName)) ∈ lw_all := lw_g (lw_at lw_m3 194 rfl) rfl
theorem q777 : (Jvm.Cond.methodLink "java/lang/AbstractStringBuilder" (251 : Nat) ({ cls := "java/lang/StringUTF16", name := "getChars", desc := "(III[B)I" } : Jvm.MethodName)) ∈ lw_all := lw_g (lw_at lw_m3 201 rfl) rfl
theorem q799 : (Jvm.Cond.instanceMethod ({ cls := "java/lang/AbstractStringBuilder", name := "getValue", desc := "()[B" } : Jvm.MethodName)) ∈ lw_all := lw_g (lw_at lw_m3 223 rfl) rfl
theorem q800 : (Jvm.Cond.sameMethod "java/lang/AbstractStringBuilder" "java/lang/AbstractStringBuilder" "getValue" "()[B") ∈ lw_all := lw_g (lw_at lw_m3 224 rfl) rfl
theorem q802 : (Jvm.Cond.code ({ cls := "java/lang/AbstractStringBuilder", name := "getValue", desc := "()[B" } : Jvm.MethodName) prog_26_method_64_code (1 : Nat) (Option.some (Jvm.ClassFile.FieldType.array Jvm.ClassFile.FieldType.byte))) ∈ lw_all := lw_g (lw_at lw_m3 226 rfl) rfl
theorem q804 : (Jvm.Cond.instanceMethod ({ cls := "java/lang/AbstractStringBuilder", name := "length", desc := "()I" } : Jvm.MethodName)) ∈ lw_all := lw_g (lw_at lw_m3 228 rfl) rfl
theorem q805 : (Jvm.Cond.sameMethod "java/lang/AbstractStringBuilder" "java/lang/AbstractStringBuilder" "length" "()I") ∈ lw_all := lw_g (lw_at lw_m3 229 rfl) rfl
theorem q810 : (Jvm.Cond.code ({ cls := "java/lang/AbstractStringBuilder", name := "length", desc := "()I" } : Jvm.MethodName) prog_26_method_6_code (1 : Nat) (Option.some Jvm.ClassFile.FieldType.int)) ∈ lw_all := lw_g (lw_at lw_m3 234 rfl) rfl
theorem q958 : (Jvm.Cond.instanceMethod ({ cls := "java/lang/AbstractStringBuilder", name := "append", desc := "(C)Ljava/lang/AbstractStringBuilder;" } : Jvm.MethodName)) ∈ lw_all := lw_g (lw_at lw_m4 142 rfl) rfl
theorem q959 : (Jvm.Cond.code ({ cls := "java/lang/AbstractStringBuilder", name := "append", desc := "(C)Ljava/lang/AbstractStringBuilder;" } : Jvm.MethodName) prog_26_method_31_code (2 : Nat) (Option.some (Jvm.ClassFile.FieldType.object "java/lang/AbstractStringBuilder"))) ∈ lw_all := lw_g (lw_at lw_m4 143 rfl) rfl
theorem q960 : (Jvm.Cond.methodLink "java/lang/AbstractStringBuilder" (191 : Nat) ({ cls := "java/lang/StringLatin1", name := "canEncode", desc := "(C)Z" } : Jvm.MethodName)) ∈ lw_all := lw_g (lw_at lw_m4 144 rfl) rfl
theorem q963 : (Jvm.Cond.methodLink "java/lang/AbstractStringBuilder" (197 : Nat) ({ cls := "java/lang/StringUTF16", name := "putCharSB", desc := "([BII)V" } : Jvm.MethodName)) ∈ lw_all := lw_g (lw_at lw_m4 147 rfl) rfl
theorem q2353 : (Jvm.Cond.instanceMethod ({ cls := "java/lang/AbstractStringBuilder", name := "compareTo", desc := "(Ljava/lang/AbstractStringBuilder;)I" } : Jvm.MethodName)) ∈ lw_all := lw_g (lw_at lw_m10 97 rfl) rfl
theorem q2354 : (Jvm.Cond.code ({ cls := "java/lang/AbstractStringBuilder", name := "compareTo", desc := "(Ljava/lang/AbstractStringBuilder;)I" } : Jvm.MethodName) prog_26_method_5_code (6 : Nat) (Option.some Jvm.ClassFile.FieldType.int)) ∈ lw_all := lw_g (lw_at lw_m10 98 rfl) rfl
theorem q2355 : (Jvm.Cond.methodLink "java/lang/AbstractStringBuilder" (87 : Nat) ({ cls := "java/lang/StringLatin1", name := "compareTo", desc := "([B[BII)I" } : Jvm.MethodName)) ∈ lw_all := lw_g (lw_at lw_m10 99 rfl) rfl
theorem q2356 : (Jvm.Cond.methodLink "java/lang/AbstractStringBuilder" (93 : Nat) ({ cls := "java/lang/StringUTF16", name := "compareTo", desc := "([B[BII)I" } : Jvm.MethodName)) ∈ lw_all := lw_g (lw_at lw_m10 100 rfl) rfl
theorem q2365 : (Jvm.Cond.methodLink "java/lang/AbstractStringBuilder" (94 : Nat) ({ cls := "java/lang/StringLatin1", name := "compareToUTF16", desc := "([B[BII)I" } : Jvm.MethodName)) ∈ lw_all := lw_g (lw_at lw_m10 109 rfl) rfl
theorem q2369 : (Jvm.Cond.methodLink "java/lang/AbstractStringBuilder" (97 : Nat) ({ cls := "java/lang/StringUTF16", name := "compareToLatin1", desc := "([B[BII)I" } : Jvm.MethodName)) ∈ lw_all := lw_g (lw_at lw_m10 113 rfl) rfl
theorem q3289 : (Jvm.Cond.sameMethod "java/lang/AbstractStringBuilder" "java/lang/AbstractStringBuilder" "append" "(Ljava/lang/String;)Ljava/lang/AbstractStringBuilder;") ∈ lw_all := lw_g (lw_at lw_m14 73 rfl) rfl
theorem q3290 : (Jvm.Cond.sameMethod "java/lang/AbstractStringBuilder" "java/lang/AbstractStringBuilder" "appendNull" "()Ljava/lang/AbstractStringBuilder;") ∈ lw_all := lw_g (lw_at lw_m14 74 rfl) rfl
theorem q3291 : (Jvm.Cond.sameMethod "java/lang/AbstractStringBuilder" "java/lang/AbstractStringBuilder" "ensureCapacityInternal" "(I)V") ∈ lw_all := lw_g (lw_at lw_m14 75 rfl) rfl
theorem q3292 : (Jvm.Cond.sameMethod "java/lang/AbstractStringBuilder" "java/lang/AbstractStringBuilder" "newCapacity" "(I)I") ∈ lw_all := lw_g (lw_at lw_m14 76 rfl) rfl
theorem q3293 : (Jvm.Cond.sameMethod "java/lang/AbstractStringBuilder" "java/lang/AbstractStringBuilder" "putStringAt" "(ILjava/lang/String;)V") ∈ lw_all := lw_g (lw_at lw_m14 77 rfl) rfl
theorem q3294 : (Jvm.Cond.sameMethod "java/lang/AbstractStringBuilder" "java/lang/AbstractStringBuilder" "inflateIfNeededFor" "(Ljava/lang/String;)V") ∈ lw_all := lw_g (lw_at lw_m14 78 rfl) rfl
theorem q3295 : (Jvm.Cond.sameMethod "java/lang/AbstractStringBuilder" "java/lang/AbstractStringBuilder" "inflate" "()V") ∈ lw_all := lw_g (lw_at lw_m14 79 rfl) rfl
theorem q3296 : (Jvm.Cond.sameMethod "java/lang/AbstractStringBuilder" "java/lang/AbstractStringBuilder" "append" "(I)Ljava/lang/AbstractStringBuilder;") ∈ lw_all := lw_g (lw_at lw_m14 80 rfl) rfl
theorem q3297 : (Jvm.Cond.sameMethod "java/lang/AbstractStringBuilder" "java/lang/AbstractStringBuilder" "append" "(C)Ljava/lang/AbstractStringBuilder;") ∈ lw_all := lw_g (lw_at lw_m14 81 rfl) rfl
theorem q3300 : (Jvm.Cond.sameMethod "java/lang/AbstractStringBuilder" "java/lang/AbstractStringBuilder" "compareTo" "(Ljava/lang/AbstractStringBuilder;)I") ∈ lw_all := lw_g (lw_at lw_m14 84 rfl) rfl
/-! java/lang/StringBuilder -/
def RJ15 : String := "java/lang/StringBuilder"
def TJ15 : u_T := fun k => match k with
  | 0 => ("java/lang/AbstractStringBuilder", "value", "[B", false)
  | 1 => ("java/lang/AbstractStringBuilder", "coder", "B", false)
  | 2 => ("java/lang/AbstractStringBuilder", "maybeLatin1", "Z", false)
  | _ => ("java/lang/AbstractStringBuilder", "count", "I", false)
def tyJ15 : Nat → FieldType := fun k => match k with
  | 0 => .array .byte
  | 1 => .byte
  | 2 => .boolean
  | _ => .int
abbrev wsJ150 : List Cond := u_ws RJ15 TJ15 4
theorem nmJ15 : ∀ a, a < 4 → ∀ b, b < 4 → a ≠ b → (TJ15 a).2.1 ≠ (TJ15 b).2.1 := by decide +kernel
theorem tyJ15_ok : ∀ k, k < 4 → parseFieldDescriptor (TJ15 k).2.2.1 = some (tyJ15 k) := by decide +kernel
abbrev cJ15_init : ByteArray := prog_47_method_1_code
def yJ15_init : MethodName := ⟨RJ15, "<init>", "()V"⟩
def dkwJ15_init_0 : List UInt8 := [42, 16, 16, 183, 0, 1, 177]
abbrev dktJ15_init_0 : List UInt8 := dkwJ15_init_0 ++ []
theorem dksJ15_init_0 : cJ15_init.data.toList.drop 0 = dktJ15_init_0 := by decide +kernel
theorem dJ15_init_0 : decode cJ15_init 0 = .ok (.aload_n 0, 1) := dk_42 (dk_at dksJ15_init_0 0 rfl rfl)
theorem dJ15_init_1 : decode cJ15_init 1 = .ok (.bipush 16, 2) := dk_16 16 (dk_at dksJ15_init_0 1 rfl rfl)
theorem dJ15_init_3 : decode cJ15_init 3 = .ok (.invokespecial 1, 3) := dk_183 0 1 (dk_at dksJ15_init_0 3 rfl rfl)
theorem dJ15_init_6 : decode cJ15_init 6 = .ok (.return_, 1) := dk_177 (dk_at dksJ15_init_0 6 rfl rfl)
abbrev cJ15_append : ByteArray := prog_47_method_7_code
def yJ15_append : MethodName := ⟨RJ15, "append", "(Ljava/lang/String;)Ljava/lang/StringBuilder;"⟩
def dkwJ15_append_0 : List UInt8 := [42, 43, 183, 0, 29, 87, 42, 176]
abbrev dktJ15_append_0 : List UInt8 := dkwJ15_append_0 ++ []
theorem dksJ15_append_0 : cJ15_append.data.toList.drop 0 = dktJ15_append_0 := by decide +kernel
theorem dJ15_append_0 : decode cJ15_append 0 = .ok (.aload_n 0, 1) := dk_42 (dk_at dksJ15_append_0 0 rfl rfl)
theorem dJ15_append_1 : decode cJ15_append 1 = .ok (.aload_n 1, 1) := dk_43 (dk_at dksJ15_append_0 1 rfl rfl)
theorem dJ15_append_2 : decode cJ15_append 2 = .ok (.invokespecial 29, 3) := dk_183 0 29 (dk_at dksJ15_append_0 2 rfl rfl)
theorem dJ15_append_5 : decode cJ15_append 5 = .ok (.pop, 1) := dk_87 (dk_at dksJ15_append_0 5 rfl rfl)
theorem dJ15_append_6 : decode cJ15_append 6 = .ok (.aload_n 0, 1) := dk_42 (dk_at dksJ15_append_0 6 rfl rfl)
theorem dJ15_append_7 : decode cJ15_append 7 = .ok (.areturn, 1) := dk_176 (dk_at dksJ15_append_0 7 rfl rfl)
abbrev cJ15_append_2 : ByteArray := prog_47_method_15_code
def yJ15_append_2 : MethodName := ⟨RJ15, "append", "(I)Ljava/lang/StringBuilder;"⟩
def dkwJ15_append_2_0 : List UInt8 := [42, 27, 183, 0, 53, 87, 42, 176]
abbrev dktJ15_append_2_0 : List UInt8 := dkwJ15_append_2_0 ++ []
theorem dksJ15_append_2_0 : cJ15_append_2.data.toList.drop 0 = dktJ15_append_2_0 := by decide +kernel
theorem dJ15_append_2_0 : decode cJ15_append_2 0 = .ok (.aload_n 0, 1) := dk_42 (dk_at dksJ15_append_2_0 0 rfl rfl)
theorem dJ15_append_2_1 : decode cJ15_append_2 1 = .ok (.iload_n 1, 1) := dk_27 (dk_at dksJ15_append_2_0 1 rfl rfl)
theorem dJ15_append_2_2 : decode cJ15_append_2 2 = .ok (.invokespecial 53, 3) := dk_183 0 53 (dk_at dksJ15_append_2_0 2 rfl rfl)
theorem dJ15_append_2_5 : decode cJ15_append_2 5 = .ok (.pop, 1) := dk_87 (dk_at dksJ15_append_2_0 5 rfl rfl)
theorem dJ15_append_2_6 : decode cJ15_append_2 6 = .ok (.aload_n 0, 1) := dk_42 (dk_at dksJ15_append_2_0 6 rfl rfl)
theorem dJ15_append_2_7 : decode cJ15_append_2 7 = .ok (.areturn, 1) := dk_176 (dk_at dksJ15_append_2_0 7 rfl rfl)
abbrev cJ15_toString : ByteArray := prog_47_method_42_code
def yJ15_toString : MethodName := ⟨RJ15, "toString", "()Ljava/lang/String;"⟩
def dkwJ15_toString_0 : List UInt8 := [187, 0, 18, 89, 42, 183, 0, 137, 176]
abbrev dktJ15_toString_0 : List UInt8 := dkwJ15_toString_0 ++ []
theorem dksJ15_toString_0 : cJ15_toString.data.toList.drop 0 = dktJ15_toString_0 := by decide +kernel
theorem dJ15_toString_0 : decode cJ15_toString 0 = .ok (.new 18, 3) := dk_187 0 18 (dk_at dksJ15_toString_0 0 rfl rfl)
theorem dJ15_toString_3 : decode cJ15_toString 3 = .ok (.dup, 1) := dk_89 (dk_at dksJ15_toString_0 3 rfl rfl)
theorem dJ15_toString_4 : decode cJ15_toString 4 = .ok (.aload_n 0, 1) := dk_42 (dk_at dksJ15_toString_0 4 rfl rfl)
theorem dJ15_toString_5 : decode cJ15_toString 5 = .ok (.invokespecial 137, 3) := dk_183 0 137 (dk_at dksJ15_toString_0 5 rfl rfl)
theorem dJ15_toString_8 : decode cJ15_toString 8 = .ok (.areturn, 1) := dk_176 (dk_at dksJ15_toString_0 8 rfl rfl)
abbrev cJ15_length : ByteArray := prog_47_method_93_code
def yJ15_length : MethodName := ⟨RJ15, "length", "()I"⟩
theorem dJ15_length_0 : decode cJ15_length 0 = .ok (.aload_n 0, 1) := by decide +kernel
theorem dJ15_length_1 : decode cJ15_length 1 = .ok (.invokespecial 343, 3) := by decide +kernel
theorem dJ15_length_4 : decode cJ15_length 4 = .ok (.ireturn, 1) := by decide +kernel
abbrev cJ15_append_3 : ByteArray := prog_47_method_14_code
def yJ15_append_3 : MethodName := ⟨RJ15, "append", "(C)Ljava/lang/StringBuilder;"⟩
def dkwJ15_append_3_0 : List UInt8 := [42, 27, 183, 0, 50, 87, 42, 176]
abbrev dktJ15_append_3_0 : List UInt8 := dkwJ15_append_3_0 ++ []
theorem dksJ15_append_3_0 : cJ15_append_3.data.toList.drop 0 = dktJ15_append_3_0 := by decide +kernel
theorem dJ15_append_3_0 : decode cJ15_append_3 0 = .ok (.aload_n 0, 1) := dk_42 (dk_at dksJ15_append_3_0 0 rfl rfl)
theorem dJ15_append_3_1 : decode cJ15_append_3 1 = .ok (.iload_n 1, 1) := dk_27 (dk_at dksJ15_append_3_0 1 rfl rfl)
theorem dJ15_append_3_2 : decode cJ15_append_3 2 = .ok (.invokespecial 50, 3) := dk_183 0 50 (dk_at dksJ15_append_3_0 2 rfl rfl)
theorem dJ15_append_3_5 : decode cJ15_append_3 5 = .ok (.pop, 1) := dk_87 (dk_at dksJ15_append_3_0 5 rfl rfl)
theorem dJ15_append_3_6 : decode cJ15_append_3 6 = .ok (.aload_n 0, 1) := dk_42 (dk_at dksJ15_append_3_0 6 rfl rfl)
theorem dJ15_append_3_7 : decode cJ15_append_3 7 = .ok (.areturn, 1) := dk_176 (dk_at dksJ15_append_3_0 7 rfl rfl)
abbrev cJ15_compareTo : ByteArray := prog_47_method_97_code
def yJ15_compareTo : MethodName := ⟨RJ15, "compareTo", "(Ljava/lang/Object;)I"⟩
def dkwJ15_compareTo_0 : List UInt8 := [42, 43, 192, 0, 24, 182, 1, 90, 172]
abbrev dktJ15_compareTo_0 : List UInt8 := dkwJ15_compareTo_0 ++ []
theorem dksJ15_compareTo_0 : cJ15_compareTo.data.toList.drop 0 = dktJ15_compareTo_0 := by decide +kernel
theorem dJ15_compareTo_0 : decode cJ15_compareTo 0 = .ok (.aload_n 0, 1) := dk_42 (dk_at dksJ15_compareTo_0 0 rfl rfl)
theorem dJ15_compareTo_1 : decode cJ15_compareTo 1 = .ok (.aload_n 1, 1) := dk_43 (dk_at dksJ15_compareTo_0 1 rfl rfl)
theorem dJ15_compareTo_2 : decode cJ15_compareTo 2 = .ok (.checkcast 24, 3) := dk_192 0 24 (dk_at dksJ15_compareTo_0 2 rfl rfl)
theorem dJ15_compareTo_5 : decode cJ15_compareTo 5 = .ok (.invokevirtual 346, 3) := dk_182 1 90 (dk_at dksJ15_compareTo_0 5 rfl rfl)
theorem dJ15_compareTo_8 : decode cJ15_compareTo 8 = .ok (.ireturn, 1) := dk_172 (dk_at dksJ15_compareTo_0 8 rfl rfl)
abbrev cJ15_compareTo_2 : ByteArray := prog_47_method_5_code
def yJ15_compareTo_2 : MethodName := ⟨RJ15, "compareTo", "(Ljava/lang/StringBuilder;)I"⟩
def dkwJ15_compareTo_2_0 : List UInt8 := [42, 43, 183, 0, 13, 172]
abbrev dktJ15_compareTo_2_0 : List UInt8 := dkwJ15_compareTo_2_0 ++ []
theorem dksJ15_compareTo_2_0 : cJ15_compareTo_2.data.toList.drop 0 = dktJ15_compareTo_2_0 := by decide +kernel
theorem dJ15_compareTo_2_0 : decode cJ15_compareTo_2 0 = .ok (.aload_n 0, 1) := dk_42 (dk_at dksJ15_compareTo_2_0 0 rfl rfl)
theorem dJ15_compareTo_2_1 : decode cJ15_compareTo_2 1 = .ok (.aload_n 1, 1) := dk_43 (dk_at dksJ15_compareTo_2_0 1 rfl rfl)
theorem dJ15_compareTo_2_2 : decode cJ15_compareTo_2 2 = .ok (.invokespecial 13, 3) := dk_183 0 13 (dk_at dksJ15_compareTo_2_0 2 rfl rfl)
theorem dJ15_compareTo_2_5 : decode cJ15_compareTo_2 5 = .ok (.ireturn, 1) := dk_172 (dk_at dksJ15_compareTo_2_0 5 rfl rfl)
theorem q118 : (Jvm.Cond.initialized "java/lang/StringBuilder") ∈ lw_all := lw_g (lw_at lw_m1 22 rfl) rfl
theorem q606 : (Jvm.Cond.instantiable "java/lang/StringBuilder" (4 : Nat)) ∈ lw_all := lw_g (lw_at lw_m3 30 rfl) rfl
theorem q608 : (Jvm.Cond.instanceMethod ({ cls := "java/lang/StringBuilder", name := "<init>", desc := "()V" } : Jvm.MethodName)) ∈ lw_all := lw_g (lw_at lw_m3 32 rfl) rfl
theorem q609 : (Jvm.Cond.code ({ cls := "java/lang/StringBuilder", name := "<init>", desc := "()V" } : Jvm.MethodName) prog_47_method_1_code (1 : Nat) (Option.none : Option Jvm.ClassFile.FieldType)) ∈ lw_all := lw_g (lw_at lw_m3 33 rfl) rfl
theorem q610 : (Jvm.Cond.methodLink "java/lang/StringBuilder" (1 : Nat) ({ cls := "java/lang/AbstractStringBuilder", name := "<init>", desc := "(I)V" } : Jvm.MethodName)) ∈ lw_all := lw_g (lw_at lw_m3 34 rfl) rfl
theorem q632 : (Jvm.Cond.lays "java/lang/StringBuilder" "java/lang/AbstractStringBuilder" "value" "[B") ∈ lw_all := lw_g (lw_at lw_m3 56 rfl) rfl
theorem q634 : (Jvm.Cond.lays "java/lang/StringBuilder" "java/lang/AbstractStringBuilder" "coder" "B") ∈ lw_all := lw_g (lw_at lw_m3 58 rfl) rfl
theorem q636 : (Jvm.Cond.lays "java/lang/StringBuilder" "java/lang/AbstractStringBuilder" "maybeLatin1" "Z") ∈ lw_all := lw_g (lw_at lw_m3 60 rfl) rfl
theorem q638 : (Jvm.Cond.lays "java/lang/StringBuilder" "java/lang/AbstractStringBuilder" "count" "I") ∈ lw_all := lw_g (lw_at lw_m3 62 rfl) rfl
theorem q640 : (Jvm.Cond.superclass "java/lang/StringBuilder" "java/lang/AbstractStringBuilder") ∈ lw_all := lw_g (lw_at lw_m3 64 rfl) rfl
theorem q643 : (Jvm.Cond.instanceMethod ({ cls := "java/lang/StringBuilder", name := "append", desc := "(Ljava/lang/String;)Ljava/lang/StringBuilder;" } : Jvm.MethodName)) ∈ lw_all := lw_g (lw_at lw_m3 67 rfl) rfl
theorem q644 : (Jvm.Cond.selects "java/lang/StringBuilder" ({ cls := "java/lang/StringBuilder", name := "append", desc := "(Ljava/lang/String;)Ljava/lang/StringBuilder;" } : Jvm.MethodName) ({ cls := "java/lang/StringBuilder", name := "append", desc := "(Ljava/lang/String;)Ljava/lang/StringBuilder;" } : Jvm.MethodName)) ∈ lw_all := lw_g (lw_at lw_m3 68 rfl) rfl
theorem q645 : (Jvm.Cond.code ({ cls := "java/lang/StringBuilder", name := "append", desc := "(Ljava/lang/String;)Ljava/lang/StringBuilder;" } : Jvm.MethodName) prog_47_method_7_code (2 : Nat) (Option.some (Jvm.ClassFile.FieldType.object "java/lang/StringBuilder"))) ∈ lw_all := lw_g (lw_at lw_m3 69 rfl) rfl
theorem q646 : (Jvm.Cond.methodLink "java/lang/StringBuilder" (29 : Nat) ({ cls := "java/lang/AbstractStringBuilder", name := "append", desc := "(Ljava/lang/String;)Ljava/lang/AbstractStringBuilder;" } : Jvm.MethodName)) ∈ lw_all := lw_g (lw_at lw_m3 70 rfl) rfl
theorem q689 : (Jvm.Cond.selects "java/lang/StringBuilder" ({ cls := "java/lang/AbstractStringBuilder", name := "isLatin1", desc := "()Z" } : Jvm.MethodName) ({ cls := "java/lang/AbstractStringBuilder", name := "isLatin1", desc := "()Z" } : Jvm.MethodName)) ∈ lw_all := lw_g (lw_at lw_m3 113 rfl) rfl
theorem q761 : (Jvm.Cond.instanceMethod ({ cls := "java/lang/StringBuilder", name := "append", desc := "(I)Ljava/lang/StringBuilder;" } : Jvm.MethodName)) ∈ lw_all := lw_g (lw_at lw_m3 185 rfl) rfl
theorem q762 : (Jvm.Cond.selects "java/lang/StringBuilder" ({ cls := "java/lang/StringBuilder", name := "append", desc := "(I)Ljava/lang/StringBuilder;" } : Jvm.MethodName) ({ cls := "java/lang/StringBuilder", name := "append", desc := "(I)Ljava/lang/StringBuilder;" } : Jvm.MethodName)) ∈ lw_all := lw_g (lw_at lw_m3 186 rfl) rfl
theorem q763 : (Jvm.Cond.code ({ cls := "java/lang/StringBuilder", name := "append", desc := "(I)Ljava/lang/StringBuilder;" } : Jvm.MethodName) prog_47_method_15_code (2 : Nat) (Option.some (Jvm.ClassFile.FieldType.object "java/lang/StringBuilder"))) ∈ lw_all := lw_g (lw_at lw_m3 187 rfl) rfl
theorem q764 : (Jvm.Cond.methodLink "java/lang/StringBuilder" (53 : Nat) ({ cls := "java/lang/AbstractStringBuilder", name := "append", desc := "(I)Ljava/lang/AbstractStringBuilder;" } : Jvm.MethodName)) ∈ lw_all := lw_g (lw_at lw_m3 188 rfl) rfl
theorem q787 : (Jvm.Cond.instanceMethod ({ cls := "java/lang/StringBuilder", name := "toString", desc := "()Ljava/lang/String;" } : Jvm.MethodName)) ∈ lw_all := lw_g (lw_at lw_m3 211 rfl) rfl
theorem q788 : (Jvm.Cond.selects "java/lang/StringBuilder" ({ cls := "java/lang/StringBuilder", name := "toString", desc := "()Ljava/lang/String;" } : Jvm.MethodName) ({ cls := "java/lang/StringBuilder", name := "toString", desc := "()Ljava/lang/String;" } : Jvm.MethodName)) ∈ lw_all := lw_g (lw_at lw_m3 212 rfl) rfl
theorem q789 : (Jvm.Cond.code ({ cls := "java/lang/StringBuilder", name := "toString", desc := "()Ljava/lang/String;" } : Jvm.MethodName) prog_47_method_42_code (1 : Nat) (Option.some (Jvm.ClassFile.FieldType.object "java/lang/String"))) ∈ lw_all := lw_g (lw_at lw_m3 213 rfl) rfl
theorem q790 : (Jvm.Cond.classLink "java/lang/StringBuilder" (18 : Nat) "java/lang/String") ∈ lw_all := lw_g (lw_at lw_m3 214 rfl) rfl
theorem q791 : (Jvm.Cond.methodLink "java/lang/StringBuilder" (137 : Nat) ({ cls := "java/lang/String", name := "<init>", desc := "(Ljava/lang/StringBuilder;)V" } : Jvm.MethodName)) ∈ lw_all := lw_g (lw_at lw_m3 215 rfl) rfl
theorem q801 : (Jvm.Cond.selects "java/lang/StringBuilder" ({ cls := "java/lang/AbstractStringBuilder", name := "getValue", desc := "()[B" } : Jvm.MethodName) ({ cls := "java/lang/AbstractStringBuilder", name := "getValue", desc := "()[B" } : Jvm.MethodName)) ∈ lw_all := lw_g (lw_at lw_m3 225 rfl) rfl
theorem q806 : (Jvm.Cond.selects "java/lang/StringBuilder" ({ cls := "java/lang/AbstractStringBuilder", name := "length", desc := "()I" } : Jvm.MethodName) ({ cls := "java/lang/StringBuilder", name := "length", desc := "()I" } : Jvm.MethodName)) ∈ lw_all := lw_g (lw_at lw_m3 230 rfl) rfl
theorem q807 : (Jvm.Cond.instanceMethod ({ cls := "java/lang/StringBuilder", name := "length", desc := "()I" } : Jvm.MethodName)) ∈ lw_all := lw_g (lw_at lw_m3 231 rfl) rfl
theorem q808 : (Jvm.Cond.code ({ cls := "java/lang/StringBuilder", name := "length", desc := "()I" } : Jvm.MethodName) prog_47_method_93_code (1 : Nat) (Option.some Jvm.ClassFile.FieldType.int)) ∈ lw_all := lw_g (lw_at lw_m3 232 rfl) rfl
theorem q809 : (Jvm.Cond.methodLink "java/lang/StringBuilder" (343 : Nat) ({ cls := "java/lang/AbstractStringBuilder", name := "length", desc := "()I" } : Jvm.MethodName)) ∈ lw_all := lw_g (lw_at lw_m3 233 rfl) rfl
theorem q954 : (Jvm.Cond.instanceMethod ({ cls := "java/lang/StringBuilder", name := "append", desc := "(C)Ljava/lang/StringBuilder;" } : Jvm.MethodName)) ∈ lw_all := lw_g (lw_at lw_m4 138 rfl) rfl
theorem q955 : (Jvm.Cond.selects "java/lang/StringBuilder" ({ cls := "java/lang/StringBuilder", name := "append", desc := "(C)Ljava/lang/StringBuilder;" } : Jvm.MethodName) ({ cls := "java/lang/StringBuilder", name := "append", desc := "(C)Ljava/lang/StringBuilder;" } : Jvm.MethodName)) ∈ lw_all := lw_g (lw_at lw_m4 139 rfl) rfl
theorem q956 : (Jvm.Cond.code ({ cls := "java/lang/StringBuilder", name := "append", desc := "(C)Ljava/lang/StringBuilder;" } : Jvm.MethodName) prog_47_method_14_code (2 : Nat) (Option.some (Jvm.ClassFile.FieldType.object "java/lang/StringBuilder"))) ∈ lw_all := lw_g (lw_at lw_m4 140 rfl) rfl
theorem q957 : (Jvm.Cond.methodLink "java/lang/StringBuilder" (50 : Nat) ({ cls := "java/lang/AbstractStringBuilder", name := "append", desc := "(C)Ljava/lang/AbstractStringBuilder;" } : Jvm.MethodName)) ∈ lw_all := lw_g (lw_at lw_m4 141 rfl) rfl
theorem q1089 : (Jvm.Cond.selects "java/lang/StringBuilder" ({ cls := "java/lang/Object", name := "getClass", desc := "()Ljava/lang/Class;" } : Jvm.MethodName) ({ cls := "java/lang/Object", name := "getClass", desc := "()Ljava/lang/Class;" } : Jvm.MethodName)) ∈ lw_all := lw_g (lw_at lw_m5 33 rfl) rfl
theorem q1840 : (Jvm.Cond.selects "java/lang/StringBuilder" ({ cls := "java/lang/Object", name := "equals", desc := "(Ljava/lang/Object;)Z" } : Jvm.MethodName) ({ cls := "java/lang/Object", name := "equals", desc := "(Ljava/lang/Object;)Z" } : Jvm.MethodName)) ∈ lw_all := lw_g (lw_at lw_m8 64 rfl) rfl
theorem q2341 : (Jvm.Cond.castable "java/lang/StringBuilder" "java/lang/Comparable") ∈ lw_tbl := lw_at lw_m10 85 rfl
theorem q2342 : (Jvm.Cond.selects "java/lang/StringBuilder" ({ cls := "java/lang/Comparable", name := "compareTo", desc := "(Ljava/lang/Object;)I" } : Jvm.MethodName) ({ cls := "java/lang/StringBuilder", name := "compareTo", desc := "(Ljava/lang/Object;)I" } : Jvm.MethodName)) ∈ lw_all := lw_g (lw_at lw_m10 86 rfl) rfl
theorem q2343 : (Jvm.Cond.unhidden "java/lang/StringBuilder" "compareTo" "(Ljava/lang/Object;)I") ∈ lw_tbl := lw_at lw_m10 87 rfl
theorem q2344 : (Jvm.Cond.instanceMethod ({ cls := "java/lang/StringBuilder", name := "compareTo", desc := "(Ljava/lang/Object;)I" } : Jvm.MethodName)) ∈ lw_all := lw_g (lw_at lw_m10 88 rfl) rfl
theorem q2345 : (Jvm.Cond.publicMethod ({ cls := "java/lang/StringBuilder", name := "compareTo", desc := "(Ljava/lang/Object;)I" } : Jvm.MethodName)) ∈ lw_tbl := lw_at lw_m10 89 rfl
theorem q2346 : (Jvm.Cond.code ({ cls := "java/lang/StringBuilder", name := "compareTo", desc := "(Ljava/lang/Object;)I" } : Jvm.MethodName) prog_47_method_97_code (2 : Nat) (Option.some Jvm.ClassFile.FieldType.int)) ∈ lw_all := lw_g (lw_at lw_m10 90 rfl) rfl
theorem q2347 : (Jvm.Cond.classLink "java/lang/StringBuilder" (24 : Nat) "java/lang/StringBuilder") ∈ lw_all := lw_g (lw_at lw_m10 91 rfl) rfl
theorem q2348 : (Jvm.Cond.methodLink "java/lang/StringBuilder" (346 : Nat) ({ cls := "java/lang/StringBuilder", name := "compareTo", desc := "(Ljava/lang/StringBuilder;)I" } : Jvm.MethodName)) ∈ lw_all := lw_g (lw_at lw_m10 92 rfl) rfl
theorem q2349 : (Jvm.Cond.instanceMethod ({ cls := "java/lang/StringBuilder", name := "compareTo", desc := "(Ljava/lang/StringBuilder;)I" } : Jvm.MethodName)) ∈ lw_all := lw_g (lw_at lw_m10 93 rfl) rfl
theorem q2350 : (Jvm.Cond.selects "java/lang/StringBuilder" ({ cls := "java/lang/StringBuilder", name := "compareTo", desc := "(Ljava/lang/StringBuilder;)I" } : Jvm.MethodName) ({ cls := "java/lang/StringBuilder", name := "compareTo", desc := "(Ljava/lang/StringBuilder;)I" } : Jvm.MethodName)) ∈ lw_all := lw_g (lw_at lw_m10 94 rfl) rfl
theorem q2351 : (Jvm.Cond.code ({ cls := "java/lang/StringBuilder", name := "compareTo", desc := "(Ljava/lang/StringBuilder;)I" } : Jvm.MethodName) prog_47_method_5_code (2 : Nat) (Option.some Jvm.ClassFile.FieldType.int)) ∈ lw_all := lw_g (lw_at lw_m10 95 rfl) rfl
theorem q2352 : (Jvm.Cond.methodLink "java/lang/StringBuilder" (13 : Nat) ({ cls := "java/lang/AbstractStringBuilder", name := "compareTo", desc := "(Ljava/lang/AbstractStringBuilder;)I" } : Jvm.MethodName)) ∈ lw_all := lw_g (lw_at lw_m10 96 rfl) rfl
theorem q3298 : (Jvm.Cond.selects "java/lang/StringBuilder" ({ cls := "java/lang/StringBuilder", name := "length", desc := "()I" } : Jvm.MethodName) ({ cls := "java/lang/StringBuilder", name := "length", desc := "()I" } : Jvm.MethodName)) ∈ lw_all := lw_g (lw_at lw_m14 82 rfl) rfl
theorem q3323 : (Jvm.Cond.castable "java/lang/StringBuilder" "java/lang/Object") ∈ lw_tbl := lw_at lw_m14 107 rfl
theorem in_J15 : ∀ w ∈ wsJ150, w ∈ lw_all := lw_in wsJ150 [632, 634, 636, 638] (by decide +kernel) (by decide +kernel)
/-! java/lang/Integer -/
def RJ23 : String := "java/lang/Integer"
def TJ23 : u_T := fun k => match k with
  | _ => ("java/lang/Integer", "value", "I", true)
def tyJ23 : Nat → FieldType := fun k => match k with
  | _ => .int
abbrev wsJ230 : List Cond := u_ws RJ23 TJ23 1
theorem nmJ23 : ∀ a, a < 1 → ∀ b, b < 1 → a ≠ b → (TJ23 a).2.1 ≠ (TJ23 b).2.1 := by decide +kernel
theorem tyJ23_ok : ∀ k, k < 1 → parseFieldDescriptor (TJ23 k).2.2.1 = some (tyJ23 k) := by decide +kernel
abbrev cJ23_stringSize : ByteArray := prog_37_method_13_code
def yJ23_stringSize : MethodName := ⟨RJ23, "stringSize", "(I)I"⟩
def dkwJ23_stringSize_1 : List UInt8 := [164, 0, 7, 29, 27, 96, 172, 16, 10, 28, 104, 61, 132, 3, 1, 167, 255, 233, 16, 10, 27, 96, 172]
abbrev dktJ23_stringSize_1 : List UInt8 := dkwJ23_stringSize_1 ++ []
def dkwJ23_stringSize_0 : List UInt8 := [4, 60, 26, 155, 0, 8, 3, 60, 26, 116, 59, 16, 246, 61, 4, 62, 29, 16, 10, 162, 0, 23, 26, 28]
abbrev dktJ23_stringSize_0 : List UInt8 := dkwJ23_stringSize_0 ++ dktJ23_stringSize_1
theorem dksJ23_stringSize_0 : cJ23_stringSize.data.toList.drop 0 = dktJ23_stringSize_0 := by decide +kernel
theorem dksJ23_stringSize_1 : cJ23_stringSize.data.toList.drop 24 = dktJ23_stringSize_1 := dk_seg dksJ23_stringSize_0 24 rfl rfl
theorem dJ23_stringSize_0 : decode cJ23_stringSize 0 = .ok (.iconst 1, 1) := dk_4 (dk_at dksJ23_stringSize_0 0 rfl rfl)
theorem dJ23_stringSize_1 : decode cJ23_stringSize 1 = .ok (.istore_n 1, 1) := dk_60 (dk_at dksJ23_stringSize_0 1 rfl rfl)
theorem dJ23_stringSize_2 : decode cJ23_stringSize 2 = .ok (.iload_n 0, 1) := dk_26 (dk_at dksJ23_stringSize_0 2 rfl rfl)
theorem dJ23_stringSize_3 : decode cJ23_stringSize 3 = .ok (.ifCond .lt 8, 3) := dk_155 0 8 (dk_at dksJ23_stringSize_0 3 rfl rfl)
theorem dJ23_stringSize_6 : decode cJ23_stringSize 6 = .ok (.iconst 0, 1) := dk_3 (dk_at dksJ23_stringSize_0 6 rfl rfl)
theorem dJ23_stringSize_7 : decode cJ23_stringSize 7 = .ok (.istore_n 1, 1) := dk_60 (dk_at dksJ23_stringSize_0 7 rfl rfl)
theorem dJ23_stringSize_8 : decode cJ23_stringSize 8 = .ok (.iload_n 0, 1) := dk_26 (dk_at dksJ23_stringSize_0 8 rfl rfl)
theorem dJ23_stringSize_9 : decode cJ23_stringSize 9 = .ok (.ineg, 1) := dk_116 (dk_at dksJ23_stringSize_0 9 rfl rfl)
theorem dJ23_stringSize_10 : decode cJ23_stringSize 10 = .ok (.istore_n 0, 1) := dk_59 (dk_at dksJ23_stringSize_0 10 rfl rfl)
theorem dJ23_stringSize_11 : decode cJ23_stringSize 11 = .ok (.bipush (-10), 2) := dk_16 246 (dk_at dksJ23_stringSize_0 11 rfl rfl)
theorem dJ23_stringSize_13 : decode cJ23_stringSize 13 = .ok (.istore_n 2, 1) := dk_61 (dk_at dksJ23_stringSize_0 13 rfl rfl)
theorem dJ23_stringSize_14 : decode cJ23_stringSize 14 = .ok (.iconst 1, 1) := dk_4 (dk_at dksJ23_stringSize_0 14 rfl rfl)
theorem dJ23_stringSize_15 : decode cJ23_stringSize 15 = .ok (.istore_n 3, 1) := dk_62 (dk_at dksJ23_stringSize_0 15 rfl rfl)
theorem dJ23_stringSize_16 : decode cJ23_stringSize 16 = .ok (.iload_n 3, 1) := dk_29 (dk_at dksJ23_stringSize_0 16 rfl rfl)
theorem dJ23_stringSize_17 : decode cJ23_stringSize 17 = .ok (.bipush 10, 2) := dk_16 10 (dk_at dksJ23_stringSize_0 17 rfl rfl)
theorem dJ23_stringSize_19 : decode cJ23_stringSize 19 = .ok (.if_icmp .ge 23, 3) := dk_162 0 23 (dk_at dksJ23_stringSize_0 19 rfl rfl)
theorem dJ23_stringSize_22 : decode cJ23_stringSize 22 = .ok (.iload_n 0, 1) := dk_26 (dk_at dksJ23_stringSize_0 22 rfl rfl)
theorem dJ23_stringSize_23 : decode cJ23_stringSize 23 = .ok (.iload_n 2, 1) := dk_28 (dk_at dksJ23_stringSize_0 23 rfl rfl)
theorem dJ23_stringSize_24 : decode cJ23_stringSize 24 = .ok (.if_icmp .le 7, 3) := dk_164 0 7 (dk_at dksJ23_stringSize_1 0 rfl rfl)
theorem dJ23_stringSize_27 : decode cJ23_stringSize 27 = .ok (.iload_n 3, 1) := dk_29 (dk_at dksJ23_stringSize_1 3 rfl rfl)
theorem dJ23_stringSize_28 : decode cJ23_stringSize 28 = .ok (.iload_n 1, 1) := dk_27 (dk_at dksJ23_stringSize_1 4 rfl rfl)
theorem dJ23_stringSize_29 : decode cJ23_stringSize 29 = .ok (.iadd, 1) := dk_96 (dk_at dksJ23_stringSize_1 5 rfl rfl)
theorem dJ23_stringSize_30 : decode cJ23_stringSize 30 = .ok (.ireturn, 1) := dk_172 (dk_at dksJ23_stringSize_1 6 rfl rfl)
theorem dJ23_stringSize_31 : decode cJ23_stringSize 31 = .ok (.bipush 10, 2) := dk_16 10 (dk_at dksJ23_stringSize_1 7 rfl rfl)
theorem dJ23_stringSize_33 : decode cJ23_stringSize 33 = .ok (.iload_n 2, 1) := dk_28 (dk_at dksJ23_stringSize_1 9 rfl rfl)
theorem dJ23_stringSize_34 : decode cJ23_stringSize 34 = .ok (.imul, 1) := dk_104 (dk_at dksJ23_stringSize_1 10 rfl rfl)
theorem dJ23_stringSize_35 : decode cJ23_stringSize 35 = .ok (.istore_n 2, 1) := dk_61 (dk_at dksJ23_stringSize_1 11 rfl rfl)
theorem dJ23_stringSize_36 : decode cJ23_stringSize 36 = .ok (.iinc 3 1, 3) := dk_132 3 1 (dk_at dksJ23_stringSize_1 12 rfl rfl)
theorem dJ23_stringSize_39 : decode cJ23_stringSize 39 = .ok (.goto (-23), 3) := dk_167 255 233 (dk_at dksJ23_stringSize_1 15 rfl rfl)
theorem dJ23_stringSize_42 : decode cJ23_stringSize 42 = .ok (.bipush 10, 2) := dk_16 10 (dk_at dksJ23_stringSize_1 18 rfl rfl)
theorem dJ23_stringSize_44 : decode cJ23_stringSize 44 = .ok (.iload_n 1, 1) := dk_27 (dk_at dksJ23_stringSize_1 20 rfl rfl)
theorem dJ23_stringSize_45 : decode cJ23_stringSize 45 = .ok (.iadd, 1) := dk_96 (dk_at dksJ23_stringSize_1 21 rfl rfl)
theorem dJ23_stringSize_46 : decode cJ23_stringSize 46 = .ok (.ireturn, 1) := dk_172 (dk_at dksJ23_stringSize_1 22 rfl rfl)
abbrev cJ23_getChars : ByteArray := prog_37_method_12_code
def yJ23_getChars : MethodName := ⟨RJ23, "getChars", "(II[B)I"⟩
def dkwJ23_getChars_5 : List UInt8 := [16, 45, 84, 21, 5, 172]
abbrev dktJ23_getChars_5 : List UInt8 := dkwJ23_getChars_5 ++ []
def dkwJ23_getChars_4 : List UInt8 := [132, 5, 255, 21, 5, 178, 0, 87, 26, 116, 51, 84, 21, 6, 153, 0, 12, 44, 132, 5, 255, 21, 5]
abbrev dktJ23_getChars_4 : List UInt8 := dkwJ23_getChars_4 ++ dktJ23_getChars_5
def dkwJ23_getChars_3 : List UInt8 := [167, 255, 209, 44, 132, 5, 255, 21, 5, 178, 0, 83, 26, 116, 51, 84, 26, 16, 247, 162, 0, 16, 44]
abbrev dktJ23_getChars_3 : List UInt8 := dkwJ23_getChars_3 ++ dktJ23_getChars_4
def dkwJ23_getChars_2 : List UInt8 := [21, 5, 178, 0, 83, 21, 4, 51, 84, 44, 132, 5, 255, 21, 5, 178, 0, 87, 21, 4, 51, 84]
abbrev dktJ23_getChars_2 : List UInt8 := dkwJ23_getChars_2 ++ dktJ23_getChars_3
def dkwJ23_getChars_1 : List UInt8 := [16, 156, 163, 0, 47, 26, 16, 100, 108, 62, 29, 16, 100, 104, 26, 100, 54, 4, 29, 59, 44, 132, 5, 255]
abbrev dktJ23_getChars_1 : List UInt8 := dkwJ23_getChars_1 ++ dktJ23_getChars_2
def dkwJ23_getChars_0 : List UInt8 := [27, 54, 5, 26, 156, 0, 7, 4, 167, 0, 4, 3, 54, 6, 21, 6, 154, 0, 6, 26, 116, 59, 26]
abbrev dktJ23_getChars_0 : List UInt8 := dkwJ23_getChars_0 ++ dktJ23_getChars_1
theorem dksJ23_getChars_0 : cJ23_getChars.data.toList.drop 0 = dktJ23_getChars_0 := by decide +kernel
theorem dksJ23_getChars_1 : cJ23_getChars.data.toList.drop 23 = dktJ23_getChars_1 := dk_seg dksJ23_getChars_0 23 rfl rfl
theorem dksJ23_getChars_2 : cJ23_getChars.data.toList.drop 47 = dktJ23_getChars_2 := dk_seg dksJ23_getChars_1 24 rfl rfl
theorem dksJ23_getChars_3 : cJ23_getChars.data.toList.drop 69 = dktJ23_getChars_3 := dk_seg dksJ23_getChars_2 22 rfl rfl
theorem dksJ23_getChars_4 : cJ23_getChars.data.toList.drop 92 = dktJ23_getChars_4 := dk_seg dksJ23_getChars_3 23 rfl rfl
theorem dksJ23_getChars_5 : cJ23_getChars.data.toList.drop 115 = dktJ23_getChars_5 := dk_seg dksJ23_getChars_4 23 rfl rfl
theorem dJ23_getChars_0 : decode cJ23_getChars 0 = .ok (.iload_n 1, 1) := dk_27 (dk_at dksJ23_getChars_0 0 rfl rfl)
theorem dJ23_getChars_1 : decode cJ23_getChars 1 = .ok (.istore 5, 2) := dk_54 5 (dk_at dksJ23_getChars_0 1 rfl rfl)
theorem dJ23_getChars_3 : decode cJ23_getChars 3 = .ok (.iload_n 0, 1) := dk_26 (dk_at dksJ23_getChars_0 3 rfl rfl)
theorem dJ23_getChars_4 : decode cJ23_getChars 4 = .ok (.ifCond .ge 7, 3) := dk_156 0 7 (dk_at dksJ23_getChars_0 4 rfl rfl)
theorem dJ23_getChars_7 : decode cJ23_getChars 7 = .ok (.iconst 1, 1) := dk_4 (dk_at dksJ23_getChars_0 7 rfl rfl)
theorem dJ23_getChars_8 : decode cJ23_getChars 8 = .ok (.goto 4, 3) := dk_167 0 4 (dk_at dksJ23_getChars_0 8 rfl rfl)
theorem dJ23_getChars_11 : decode cJ23_getChars 11 = .ok (.iconst 0, 1) := dk_3 (dk_at dksJ23_getChars_0 11 rfl rfl)
theorem dJ23_getChars_12 : decode cJ23_getChars 12 = .ok (.istore 6, 2) := dk_54 6 (dk_at dksJ23_getChars_0 12 rfl rfl)
theorem dJ23_getChars_14 : decode cJ23_getChars 14 = .ok (.iload 6, 2) := dk_21 6 (dk_at dksJ23_getChars_0 14 rfl rfl)
theorem dJ23_getChars_16 : decode cJ23_getChars 16 = .ok (.ifCond .ne 6, 3) := dk_154 0 6 (dk_at dksJ23_getChars_0 16 rfl rfl)
theorem dJ23_getChars_19 : decode cJ23_getChars 19 = .ok (.iload_n 0, 1) := dk_26 (dk_at dksJ23_getChars_0 19 rfl rfl)
theorem dJ23_getChars_20 : decode cJ23_getChars 20 = .ok (.ineg, 1) := dk_116 (dk_at dksJ23_getChars_0 20 rfl rfl)
theorem dJ23_getChars_21 : decode cJ23_getChars 21 = .ok (.istore_n 0, 1) := dk_59 (dk_at dksJ23_getChars_0 21 rfl rfl)
theorem dJ23_getChars_22 : decode cJ23_getChars 22 = .ok (.iload_n 0, 1) := dk_26 (dk_at dksJ23_getChars_0 22 rfl rfl)
theorem dJ23_getChars_23 : decode cJ23_getChars 23 = .ok (.bipush (-100), 2) := dk_16 156 (dk_at dksJ23_getChars_1 0 rfl rfl)
theorem dJ23_getChars_25 : decode cJ23_getChars 25 = .ok (.if_icmp .gt 47, 3) := dk_163 0 47 (dk_at dksJ23_getChars_1 2 rfl rfl)
theorem dJ23_getChars_28 : decode cJ23_getChars 28 = .ok (.iload_n 0, 1) := dk_26 (dk_at dksJ23_getChars_1 5 rfl rfl)
theorem dJ23_getChars_29 : decode cJ23_getChars 29 = .ok (.bipush 100, 2) := dk_16 100 (dk_at dksJ23_getChars_1 6 rfl rfl)
theorem dJ23_getChars_31 : decode cJ23_getChars 31 = .ok (.idiv, 1) := dk_108 (dk_at dksJ23_getChars_1 8 rfl rfl)
theorem dJ23_getChars_32 : decode cJ23_getChars 32 = .ok (.istore_n 3, 1) := dk_62 (dk_at dksJ23_getChars_1 9 rfl rfl)
theorem dJ23_getChars_33 : decode cJ23_getChars 33 = .ok (.iload_n 3, 1) := dk_29 (dk_at dksJ23_getChars_1 10 rfl rfl)
theorem dJ23_getChars_34 : decode cJ23_getChars 34 = .ok (.bipush 100, 2) := dk_16 100 (dk_at dksJ23_getChars_1 11 rfl rfl)
theorem dJ23_getChars_36 : decode cJ23_getChars 36 = .ok (.imul, 1) := dk_104 (dk_at dksJ23_getChars_1 13 rfl rfl)
theorem dJ23_getChars_37 : decode cJ23_getChars 37 = .ok (.iload_n 0, 1) := dk_26 (dk_at dksJ23_getChars_1 14 rfl rfl)
theorem dJ23_getChars_38 : decode cJ23_getChars 38 = .ok (.isub, 1) := dk_100 (dk_at dksJ23_getChars_1 15 rfl rfl)
theorem dJ23_getChars_39 : decode cJ23_getChars 39 = .ok (.istore 4, 2) := dk_54 4 (dk_at dksJ23_getChars_1 16 rfl rfl)
theorem dJ23_getChars_41 : decode cJ23_getChars 41 = .ok (.iload_n 3, 1) := dk_29 (dk_at dksJ23_getChars_1 18 rfl rfl)
theorem dJ23_getChars_42 : decode cJ23_getChars 42 = .ok (.istore_n 0, 1) := dk_59 (dk_at dksJ23_getChars_1 19 rfl rfl)
theorem dJ23_getChars_43 : decode cJ23_getChars 43 = .ok (.aload_n 2, 1) := dk_44 (dk_at dksJ23_getChars_1 20 rfl rfl)
theorem dJ23_getChars_44 : decode cJ23_getChars 44 = .ok (.iinc 5 (-1), 3) := dk_132 5 255 (dk_at dksJ23_getChars_1 21 rfl rfl)
theorem dJ23_getChars_47 : decode cJ23_getChars 47 = .ok (.iload 5, 2) := dk_21 5 (dk_at dksJ23_getChars_2 0 rfl rfl)
theorem dJ23_getChars_49 : decode cJ23_getChars 49 = .ok (.getstatic 83, 3) := dk_178 0 83 (dk_at dksJ23_getChars_2 2 rfl rfl)
theorem dJ23_getChars_52 : decode cJ23_getChars 52 = .ok (.iload 4, 2) := dk_21 4 (dk_at dksJ23_getChars_2 5 rfl rfl)
theorem dJ23_getChars_54 : decode cJ23_getChars 54 = .ok (.baload, 1) := dk_51 (dk_at dksJ23_getChars_2 7 rfl rfl)
theorem dJ23_getChars_55 : decode cJ23_getChars 55 = .ok (.bastore, 1) := dk_84 (dk_at dksJ23_getChars_2 8 rfl rfl)
theorem dJ23_getChars_56 : decode cJ23_getChars 56 = .ok (.aload_n 2, 1) := dk_44 (dk_at dksJ23_getChars_2 9 rfl rfl)
theorem dJ23_getChars_57 : decode cJ23_getChars 57 = .ok (.iinc 5 (-1), 3) := dk_132 5 255 (dk_at dksJ23_getChars_2 10 rfl rfl)
theorem dJ23_getChars_60 : decode cJ23_getChars 60 = .ok (.iload 5, 2) := dk_21 5 (dk_at dksJ23_getChars_2 13 rfl rfl)
theorem dJ23_getChars_62 : decode cJ23_getChars 62 = .ok (.getstatic 87, 3) := dk_178 0 87 (dk_at dksJ23_getChars_2 15 rfl rfl)
theorem dJ23_getChars_65 : decode cJ23_getChars 65 = .ok (.iload 4, 2) := dk_21 4 (dk_at dksJ23_getChars_2 18 rfl rfl)
theorem dJ23_getChars_67 : decode cJ23_getChars 67 = .ok (.baload, 1) := dk_51 (dk_at dksJ23_getChars_2 20 rfl rfl)
theorem dJ23_getChars_68 : decode cJ23_getChars 68 = .ok (.bastore, 1) := dk_84 (dk_at dksJ23_getChars_2 21 rfl rfl)
theorem dJ23_getChars_69 : decode cJ23_getChars 69 = .ok (.goto (-47), 3) := dk_167 255 209 (dk_at dksJ23_getChars_3 0 rfl rfl)
theorem dJ23_getChars_72 : decode cJ23_getChars 72 = .ok (.aload_n 2, 1) := dk_44 (dk_at dksJ23_getChars_3 3 rfl rfl)
theorem dJ23_getChars_73 : decode cJ23_getChars 73 = .ok (.iinc 5 (-1), 3) := dk_132 5 255 (dk_at dksJ23_getChars_3 4 rfl rfl)
theorem dJ23_getChars_76 : decode cJ23_getChars 76 = .ok (.iload 5, 2) := dk_21 5 (dk_at dksJ23_getChars_3 7 rfl rfl)
theorem dJ23_getChars_78 : decode cJ23_getChars 78 = .ok (.getstatic 83, 3) := dk_178 0 83 (dk_at dksJ23_getChars_3 9 rfl rfl)
theorem dJ23_getChars_81 : decode cJ23_getChars 81 = .ok (.iload_n 0, 1) := dk_26 (dk_at dksJ23_getChars_3 12 rfl rfl)
theorem dJ23_getChars_82 : decode cJ23_getChars 82 = .ok (.ineg, 1) := dk_116 (dk_at dksJ23_getChars_3 13 rfl rfl)
theorem dJ23_getChars_83 : decode cJ23_getChars 83 = .ok (.baload, 1) := dk_51 (dk_at dksJ23_getChars_3 14 rfl rfl)
theorem dJ23_getChars_84 : decode cJ23_getChars 84 = .ok (.bastore, 1) := dk_84 (dk_at dksJ23_getChars_3 15 rfl rfl)
theorem dJ23_getChars_85 : decode cJ23_getChars 85 = .ok (.iload_n 0, 1) := dk_26 (dk_at dksJ23_getChars_3 16 rfl rfl)
theorem dJ23_getChars_86 : decode cJ23_getChars 86 = .ok (.bipush (-9), 2) := dk_16 247 (dk_at dksJ23_getChars_3 17 rfl rfl)
theorem dJ23_getChars_88 : decode cJ23_getChars 88 = .ok (.if_icmp .ge 16, 3) := dk_162 0 16 (dk_at dksJ23_getChars_3 19 rfl rfl)
theorem dJ23_getChars_91 : decode cJ23_getChars 91 = .ok (.aload_n 2, 1) := dk_44 (dk_at dksJ23_getChars_3 22 rfl rfl)
theorem dJ23_getChars_92 : decode cJ23_getChars 92 = .ok (.iinc 5 (-1), 3) := dk_132 5 255 (dk_at dksJ23_getChars_4 0 rfl rfl)
theorem dJ23_getChars_95 : decode cJ23_getChars 95 = .ok (.iload 5, 2) := dk_21 5 (dk_at dksJ23_getChars_4 3 rfl rfl)
theorem dJ23_getChars_97 : decode cJ23_getChars 97 = .ok (.getstatic 87, 3) := dk_178 0 87 (dk_at dksJ23_getChars_4 5 rfl rfl)
theorem dJ23_getChars_100 : decode cJ23_getChars 100 = .ok (.iload_n 0, 1) := dk_26 (dk_at dksJ23_getChars_4 8 rfl rfl)
theorem dJ23_getChars_101 : decode cJ23_getChars 101 = .ok (.ineg, 1) := dk_116 (dk_at dksJ23_getChars_4 9 rfl rfl)
theorem dJ23_getChars_102 : decode cJ23_getChars 102 = .ok (.baload, 1) := dk_51 (dk_at dksJ23_getChars_4 10 rfl rfl)
theorem dJ23_getChars_103 : decode cJ23_getChars 103 = .ok (.bastore, 1) := dk_84 (dk_at dksJ23_getChars_4 11 rfl rfl)
theorem dJ23_getChars_104 : decode cJ23_getChars 104 = .ok (.iload 6, 2) := dk_21 6 (dk_at dksJ23_getChars_4 12 rfl rfl)
theorem dJ23_getChars_106 : decode cJ23_getChars 106 = .ok (.ifCond .eq 12, 3) := dk_153 0 12 (dk_at dksJ23_getChars_4 14 rfl rfl)
theorem dJ23_getChars_109 : decode cJ23_getChars 109 = .ok (.aload_n 2, 1) := dk_44 (dk_at dksJ23_getChars_4 17 rfl rfl)
theorem dJ23_getChars_110 : decode cJ23_getChars 110 = .ok (.iinc 5 (-1), 3) := dk_132 5 255 (dk_at dksJ23_getChars_4 18 rfl rfl)
theorem dJ23_getChars_113 : decode cJ23_getChars 113 = .ok (.iload 5, 2) := dk_21 5 (dk_at dksJ23_getChars_4 21 rfl rfl)
theorem dJ23_getChars_115 : decode cJ23_getChars 115 = .ok (.bipush 45, 2) := dk_16 45 (dk_at dksJ23_getChars_5 0 rfl rfl)
theorem dJ23_getChars_117 : decode cJ23_getChars 117 = .ok (.bastore, 1) := dk_84 (dk_at dksJ23_getChars_5 2 rfl rfl)
theorem dJ23_getChars_118 : decode cJ23_getChars 118 = .ok (.iload 5, 2) := dk_21 5 (dk_at dksJ23_getChars_5 3 rfl rfl)
theorem dJ23_getChars_120 : decode cJ23_getChars 120 = .ok (.ireturn, 1) := dk_172 (dk_at dksJ23_getChars_5 5 rfl rfl)
abbrev cJ23_equals : ByteArray := prog_37_method_34_code
def yJ23_equals : MethodName := ⟨RJ23, "equals", "(Ljava/lang/Object;)Z"⟩
def dkwJ23_equals_1 : List UInt8 := [167, 0, 4, 3, 172, 3, 172]
abbrev dktJ23_equals_1 : List UInt8 := dkwJ23_equals_1 ++ []
def dkwJ23_equals_0 : List UInt8 := [43, 193, 0, 1, 153, 0, 23, 42, 180, 0, 205, 43, 192, 0, 1, 182, 0, 211, 160, 0, 7, 4]
abbrev dktJ23_equals_0 : List UInt8 := dkwJ23_equals_0 ++ dktJ23_equals_1
theorem dksJ23_equals_0 : cJ23_equals.data.toList.drop 0 = dktJ23_equals_0 := by decide +kernel
theorem dksJ23_equals_1 : cJ23_equals.data.toList.drop 22 = dktJ23_equals_1 := dk_seg dksJ23_equals_0 22 rfl rfl
theorem dJ23_equals_0 : decode cJ23_equals 0 = .ok (.aload_n 1, 1) := dk_43 (dk_at dksJ23_equals_0 0 rfl rfl)
theorem dJ23_equals_1 : decode cJ23_equals 1 = .ok (.instanceof 1, 3) := dk_193 0 1 (dk_at dksJ23_equals_0 1 rfl rfl)
theorem dJ23_equals_4 : decode cJ23_equals 4 = .ok (.ifCond .eq 23, 3) := dk_153 0 23 (dk_at dksJ23_equals_0 4 rfl rfl)
theorem dJ23_equals_7 : decode cJ23_equals 7 = .ok (.aload_n 0, 1) := dk_42 (dk_at dksJ23_equals_0 7 rfl rfl)
theorem dJ23_equals_8 : decode cJ23_equals 8 = .ok (.getfield 205, 3) := dk_180 0 205 (dk_at dksJ23_equals_0 8 rfl rfl)
theorem dJ23_equals_11 : decode cJ23_equals 11 = .ok (.aload_n 1, 1) := dk_43 (dk_at dksJ23_equals_0 11 rfl rfl)
theorem dJ23_equals_12 : decode cJ23_equals 12 = .ok (.checkcast 1, 3) := dk_192 0 1 (dk_at dksJ23_equals_0 12 rfl rfl)
theorem dJ23_equals_15 : decode cJ23_equals 15 = .ok (.invokevirtual 211, 3) := dk_182 0 211 (dk_at dksJ23_equals_0 15 rfl rfl)
theorem dJ23_equals_18 : decode cJ23_equals 18 = .ok (.if_icmp .ne 7, 3) := dk_160 0 7 (dk_at dksJ23_equals_0 18 rfl rfl)
theorem dJ23_equals_21 : decode cJ23_equals 21 = .ok (.iconst 1, 1) := dk_4 (dk_at dksJ23_equals_0 21 rfl rfl)
theorem dJ23_equals_22 : decode cJ23_equals 22 = .ok (.goto 4, 3) := dk_167 0 4 (dk_at dksJ23_equals_1 0 rfl rfl)
theorem dJ23_equals_25 : decode cJ23_equals 25 = .ok (.iconst 0, 1) := dk_3 (dk_at dksJ23_equals_1 3 rfl rfl)
theorem dJ23_equals_26 : decode cJ23_equals 26 = .ok (.ireturn, 1) := dk_172 (dk_at dksJ23_equals_1 4 rfl rfl)
theorem dJ23_equals_27 : decode cJ23_equals 27 = .ok (.iconst 0, 1) := dk_3 (dk_at dksJ23_equals_1 5 rfl rfl)
theorem dJ23_equals_28 : decode cJ23_equals 28 = .ok (.ireturn, 1) := dk_172 (dk_at dksJ23_equals_1 6 rfl rfl)
abbrev cJ23_intValue : ByteArray := prog_37_method_27_code
def yJ23_intValue : MethodName := ⟨RJ23, "intValue", "()I"⟩
theorem dJ23_intValue_0 : decode cJ23_intValue 0 = .ok (.aload_n 0, 1) := by decide +kernel
theorem dJ23_intValue_1 : decode cJ23_intValue 1 = .ok (.getfield 205, 3) := by decide +kernel
theorem dJ23_intValue_4 : decode cJ23_intValue 4 = .ok (.ireturn, 1) := by decide +kernel
abbrev cJ23_compareTo : ByteArray := prog_37_method_63_code
def yJ23_compareTo : MethodName := ⟨RJ23, "compareTo", "(Ljava/lang/Object;)I"⟩
def dkwJ23_compareTo_0 : List UInt8 := [42, 43, 192, 0, 1, 182, 1, 28, 172]
abbrev dktJ23_compareTo_0 : List UInt8 := dkwJ23_compareTo_0 ++ []
theorem dksJ23_compareTo_0 : cJ23_compareTo.data.toList.drop 0 = dktJ23_compareTo_0 := by decide +kernel
theorem dJ23_compareTo_0 : decode cJ23_compareTo 0 = .ok (.aload_n 0, 1) := dk_42 (dk_at dksJ23_compareTo_0 0 rfl rfl)
theorem dJ23_compareTo_1 : decode cJ23_compareTo 1 = .ok (.aload_n 1, 1) := dk_43 (dk_at dksJ23_compareTo_0 1 rfl rfl)
theorem dJ23_compareTo_2 : decode cJ23_compareTo 2 = .ok (.checkcast 1, 3) := dk_192 0 1 (dk_at dksJ23_compareTo_0 2 rfl rfl)
theorem dJ23_compareTo_5 : decode cJ23_compareTo 5 = .ok (.invokevirtual 284, 3) := dk_182 1 28 (dk_at dksJ23_compareTo_0 5 rfl rfl)
theorem dJ23_compareTo_8 : decode cJ23_compareTo 8 = .ok (.ireturn, 1) := dk_172 (dk_at dksJ23_compareTo_0 8 rfl rfl)
abbrev cJ23_compareTo_2 : ByteArray := prog_37_method_39_code
def yJ23_compareTo_2 : MethodName := ⟨RJ23, "compareTo", "(Ljava/lang/Integer;)I"⟩
def dkwJ23_compareTo_2_0 : List UInt8 := [42, 180, 0, 205, 43, 180, 0, 205, 184, 1, 3, 172]
abbrev dktJ23_compareTo_2_0 : List UInt8 := dkwJ23_compareTo_2_0 ++ []
theorem dksJ23_compareTo_2_0 : cJ23_compareTo_2.data.toList.drop 0 = dktJ23_compareTo_2_0 := by decide +kernel
theorem dJ23_compareTo_2_0 : decode cJ23_compareTo_2 0 = .ok (.aload_n 0, 1) := dk_42 (dk_at dksJ23_compareTo_2_0 0 rfl rfl)
theorem dJ23_compareTo_2_1 : decode cJ23_compareTo_2 1 = .ok (.getfield 205, 3) := dk_180 0 205 (dk_at dksJ23_compareTo_2_0 1 rfl rfl)
theorem dJ23_compareTo_2_4 : decode cJ23_compareTo_2 4 = .ok (.aload_n 1, 1) := dk_43 (dk_at dksJ23_compareTo_2_0 4 rfl rfl)
theorem dJ23_compareTo_2_5 : decode cJ23_compareTo_2 5 = .ok (.getfield 205, 3) := dk_180 0 205 (dk_at dksJ23_compareTo_2_0 5 rfl rfl)
theorem dJ23_compareTo_2_8 : decode cJ23_compareTo_2 8 = .ok (.invokestatic 259, 3) := dk_184 1 3 (dk_at dksJ23_compareTo_2_0 8 rfl rfl)
theorem dJ23_compareTo_2_11 : decode cJ23_compareTo_2 11 = .ok (.ireturn, 1) := dk_172 (dk_at dksJ23_compareTo_2_0 11 rfl rfl)
abbrev cJ23_compare : ByteArray := prog_37_method_40_code
def yJ23_compare : MethodName := ⟨RJ23, "compare", "(II)I"⟩
def dkwJ23_compare_0 : List UInt8 := [26, 27, 162, 0, 7, 2, 167, 0, 13, 26, 27, 160, 0, 7, 3, 167, 0, 4, 4, 172]
abbrev dktJ23_compare_0 : List UInt8 := dkwJ23_compare_0 ++ []
theorem dksJ23_compare_0 : cJ23_compare.data.toList.drop 0 = dktJ23_compare_0 := by decide +kernel
theorem dJ23_compare_0 : decode cJ23_compare 0 = .ok (.iload_n 0, 1) := dk_26 (dk_at dksJ23_compare_0 0 rfl rfl)
theorem dJ23_compare_1 : decode cJ23_compare 1 = .ok (.iload_n 1, 1) := dk_27 (dk_at dksJ23_compare_0 1 rfl rfl)
theorem dJ23_compare_2 : decode cJ23_compare 2 = .ok (.if_icmp .ge 7, 3) := dk_162 0 7 (dk_at dksJ23_compare_0 2 rfl rfl)
theorem dJ23_compare_5 : decode cJ23_compare 5 = .ok (.iconst (-1), 1) := dk_2 (dk_at dksJ23_compare_0 5 rfl rfl)
theorem dJ23_compare_6 : decode cJ23_compare 6 = .ok (.goto 13, 3) := dk_167 0 13 (dk_at dksJ23_compare_0 6 rfl rfl)
theorem dJ23_compare_9 : decode cJ23_compare 9 = .ok (.iload_n 0, 1) := dk_26 (dk_at dksJ23_compare_0 9 rfl rfl)
theorem dJ23_compare_10 : decode cJ23_compare 10 = .ok (.iload_n 1, 1) := dk_27 (dk_at dksJ23_compare_0 10 rfl rfl)
theorem dJ23_compare_11 : decode cJ23_compare 11 = .ok (.if_icmp .ne 7, 3) := dk_160 0 7 (dk_at dksJ23_compare_0 11 rfl rfl)
theorem dJ23_compare_14 : decode cJ23_compare 14 = .ok (.iconst 0, 1) := dk_3 (dk_at dksJ23_compare_0 14 rfl rfl)
theorem dJ23_compare_15 : decode cJ23_compare 15 = .ok (.goto 4, 3) := dk_167 0 4 (dk_at dksJ23_compare_0 15 rfl rfl)
theorem dJ23_compare_18 : decode cJ23_compare 18 = .ok (.iconst 1, 1) := dk_4 (dk_at dksJ23_compare_0 18 rfl rfl)
theorem dJ23_compare_19 : decode cJ23_compare 19 = .ok (.ireturn, 1) := dk_172 (dk_at dksJ23_compare_0 19 rfl rfl)
abbrev cJ23_numberOfLeadingZeros : ByteArray := prog_37_method_47_code
def yJ23_numberOfLeadingZeros : MethodName := ⟨RJ23, "numberOfLeadingZeros", "(I)I"⟩
def dkwJ23_numberOfLeadingZeros_3 : List UInt8 := [5, 124, 59, 27, 26, 4, 124, 100, 172]
abbrev dktJ23_numberOfLeadingZeros_3 : List UInt8 := dkwJ23_numberOfLeadingZeros_3 ++ []
def dkwJ23_numberOfLeadingZeros_2 : List UInt8 := [124, 59, 26, 16, 16, 161, 0, 10, 132, 1, 252, 26, 7, 124, 59, 26, 7, 161, 0, 10, 132, 1, 254, 26]
abbrev dktJ23_numberOfLeadingZeros_2 : List UInt8 := dkwJ23_numberOfLeadingZeros_2 ++ dktJ23_numberOfLeadingZeros_3
def dkwJ23_numberOfLeadingZeros_1 : List UInt8 := [161, 0, 11, 132, 1, 240, 26, 16, 16, 124, 59, 26, 17, 1, 0, 161, 0, 11, 132, 1, 248, 26, 16, 8]
abbrev dktJ23_numberOfLeadingZeros_1 : List UInt8 := dkwJ23_numberOfLeadingZeros_1 ++ dktJ23_numberOfLeadingZeros_2
def dkwJ23_numberOfLeadingZeros_0 : List UInt8 := [26, 157, 0, 14, 26, 154, 0, 8, 16, 32, 167, 0, 4, 3, 172, 16, 31, 60, 26, 19, 1, 8]
abbrev dktJ23_numberOfLeadingZeros_0 : List UInt8 := dkwJ23_numberOfLeadingZeros_0 ++ dktJ23_numberOfLeadingZeros_1
theorem dksJ23_numberOfLeadingZeros_0 : cJ23_numberOfLeadingZeros.data.toList.drop 0 = dktJ23_numberOfLeadingZeros_0 := by decide +kernel
theorem dksJ23_numberOfLeadingZeros_1 : cJ23_numberOfLeadingZeros.data.toList.drop 22 = dktJ23_numberOfLeadingZeros_1 := dk_seg dksJ23_numberOfLeadingZeros_0 22 rfl rfl
theorem dksJ23_numberOfLeadingZeros_2 : cJ23_numberOfLeadingZeros.data.toList.drop 46 = dktJ23_numberOfLeadingZeros_2 := dk_seg dksJ23_numberOfLeadingZeros_1 24 rfl rfl
theorem dksJ23_numberOfLeadingZeros_3 : cJ23_numberOfLeadingZeros.data.toList.drop 70 = dktJ23_numberOfLeadingZeros_3 := dk_seg dksJ23_numberOfLeadingZeros_2 24 rfl rfl
theorem dJ23_numberOfLeadingZeros_0 : decode cJ23_numberOfLeadingZeros 0 = .ok (.iload_n 0, 1) := dk_26 (dk_at dksJ23_numberOfLeadingZeros_0 0 rfl rfl)
theorem dJ23_numberOfLeadingZeros_1 : decode cJ23_numberOfLeadingZeros 1 = .ok (.ifCond .gt 14, 3) := dk_157 0 14 (dk_at dksJ23_numberOfLeadingZeros_0 1 rfl rfl)
theorem dJ23_numberOfLeadingZeros_4 : decode cJ23_numberOfLeadingZeros 4 = .ok (.iload_n 0, 1) := dk_26 (dk_at dksJ23_numberOfLeadingZeros_0 4 rfl rfl)
theorem dJ23_numberOfLeadingZeros_5 : decode cJ23_numberOfLeadingZeros 5 = .ok (.ifCond .ne 8, 3) := dk_154 0 8 (dk_at dksJ23_numberOfLeadingZeros_0 5 rfl rfl)
theorem dJ23_numberOfLeadingZeros_8 : decode cJ23_numberOfLeadingZeros 8 = .ok (.bipush 32, 2) := dk_16 32 (dk_at dksJ23_numberOfLeadingZeros_0 8 rfl rfl)
theorem dJ23_numberOfLeadingZeros_10 : decode cJ23_numberOfLeadingZeros 10 = .ok (.goto 4, 3) := dk_167 0 4 (dk_at dksJ23_numberOfLeadingZeros_0 10 rfl rfl)
theorem dJ23_numberOfLeadingZeros_13 : decode cJ23_numberOfLeadingZeros 13 = .ok (.iconst 0, 1) := dk_3 (dk_at dksJ23_numberOfLeadingZeros_0 13 rfl rfl)
theorem dJ23_numberOfLeadingZeros_14 : decode cJ23_numberOfLeadingZeros 14 = .ok (.ireturn, 1) := dk_172 (dk_at dksJ23_numberOfLeadingZeros_0 14 rfl rfl)
theorem dJ23_numberOfLeadingZeros_15 : decode cJ23_numberOfLeadingZeros 15 = .ok (.bipush 31, 2) := dk_16 31 (dk_at dksJ23_numberOfLeadingZeros_0 15 rfl rfl)
theorem dJ23_numberOfLeadingZeros_17 : decode cJ23_numberOfLeadingZeros 17 = .ok (.istore_n 1, 1) := dk_60 (dk_at dksJ23_numberOfLeadingZeros_0 17 rfl rfl)
theorem dJ23_numberOfLeadingZeros_18 : decode cJ23_numberOfLeadingZeros 18 = .ok (.iload_n 0, 1) := dk_26 (dk_at dksJ23_numberOfLeadingZeros_0 18 rfl rfl)
theorem dJ23_numberOfLeadingZeros_19 : decode cJ23_numberOfLeadingZeros 19 = .ok (.ldc_w 264, 3) := dk_19 1 8 (dk_at dksJ23_numberOfLeadingZeros_0 19 rfl rfl)
theorem dJ23_numberOfLeadingZeros_22 : decode cJ23_numberOfLeadingZeros 22 = .ok (.if_icmp .lt 11, 3) := dk_161 0 11 (dk_at dksJ23_numberOfLeadingZeros_1 0 rfl rfl)
theorem dJ23_numberOfLeadingZeros_25 : decode cJ23_numberOfLeadingZeros 25 = .ok (.iinc 1 (-16), 3) := dk_132 1 240 (dk_at dksJ23_numberOfLeadingZeros_1 3 rfl rfl)
theorem dJ23_numberOfLeadingZeros_28 : decode cJ23_numberOfLeadingZeros 28 = .ok (.iload_n 0, 1) := dk_26 (dk_at dksJ23_numberOfLeadingZeros_1 6 rfl rfl)
theorem dJ23_numberOfLeadingZeros_29 : decode cJ23_numberOfLeadingZeros 29 = .ok (.bipush 16, 2) := dk_16 16 (dk_at dksJ23_numberOfLeadingZeros_1 7 rfl rfl)
theorem dJ23_numberOfLeadingZeros_31 : decode cJ23_numberOfLeadingZeros 31 = .ok (.iushr, 1) := dk_124 (dk_at dksJ23_numberOfLeadingZeros_1 9 rfl rfl)
theorem dJ23_numberOfLeadingZeros_32 : decode cJ23_numberOfLeadingZeros 32 = .ok (.istore_n 0, 1) := dk_59 (dk_at dksJ23_numberOfLeadingZeros_1 10 rfl rfl)
theorem dJ23_numberOfLeadingZeros_33 : decode cJ23_numberOfLeadingZeros 33 = .ok (.iload_n 0, 1) := dk_26 (dk_at dksJ23_numberOfLeadingZeros_1 11 rfl rfl)
theorem dJ23_numberOfLeadingZeros_34 : decode cJ23_numberOfLeadingZeros 34 = .ok (.sipush 256, 3) := dk_17 1 0 (dk_at dksJ23_numberOfLeadingZeros_1 12 rfl rfl)
theorem dJ23_numberOfLeadingZeros_37 : decode cJ23_numberOfLeadingZeros 37 = .ok (.if_icmp .lt 11, 3) := dk_161 0 11 (dk_at dksJ23_numberOfLeadingZeros_1 15 rfl rfl)
theorem dJ23_numberOfLeadingZeros_40 : decode cJ23_numberOfLeadingZeros 40 = .ok (.iinc 1 (-8), 3) := dk_132 1 248 (dk_at dksJ23_numberOfLeadingZeros_1 18 rfl rfl)
theorem dJ23_numberOfLeadingZeros_43 : decode cJ23_numberOfLeadingZeros 43 = .ok (.iload_n 0, 1) := dk_26 (dk_at dksJ23_numberOfLeadingZeros_1 21 rfl rfl)
theorem dJ23_numberOfLeadingZeros_44 : decode cJ23_numberOfLeadingZeros 44 = .ok (.bipush 8, 2) := dk_16 8 (dk_at dksJ23_numberOfLeadingZeros_1 22 rfl rfl)
theorem dJ23_numberOfLeadingZeros_46 : decode cJ23_numberOfLeadingZeros 46 = .ok (.iushr, 1) := dk_124 (dk_at dksJ23_numberOfLeadingZeros_2 0 rfl rfl)
theorem dJ23_numberOfLeadingZeros_47 : decode cJ23_numberOfLeadingZeros 47 = .ok (.istore_n 0, 1) := dk_59 (dk_at dksJ23_numberOfLeadingZeros_2 1 rfl rfl)
theorem dJ23_numberOfLeadingZeros_48 : decode cJ23_numberOfLeadingZeros 48 = .ok (.iload_n 0, 1) := dk_26 (dk_at dksJ23_numberOfLeadingZeros_2 2 rfl rfl)
theorem dJ23_numberOfLeadingZeros_49 : decode cJ23_numberOfLeadingZeros 49 = .ok (.bipush 16, 2) := dk_16 16 (dk_at dksJ23_numberOfLeadingZeros_2 3 rfl rfl)
theorem dJ23_numberOfLeadingZeros_51 : decode cJ23_numberOfLeadingZeros 51 = .ok (.if_icmp .lt 10, 3) := dk_161 0 10 (dk_at dksJ23_numberOfLeadingZeros_2 5 rfl rfl)
theorem dJ23_numberOfLeadingZeros_54 : decode cJ23_numberOfLeadingZeros 54 = .ok (.iinc 1 (-4), 3) := dk_132 1 252 (dk_at dksJ23_numberOfLeadingZeros_2 8 rfl rfl)
theorem dJ23_numberOfLeadingZeros_57 : decode cJ23_numberOfLeadingZeros 57 = .ok (.iload_n 0, 1) := dk_26 (dk_at dksJ23_numberOfLeadingZeros_2 11 rfl rfl)
theorem dJ23_numberOfLeadingZeros_58 : decode cJ23_numberOfLeadingZeros 58 = .ok (.iconst 4, 1) := dk_7 (dk_at dksJ23_numberOfLeadingZeros_2 12 rfl rfl)
theorem dJ23_numberOfLeadingZeros_59 : decode cJ23_numberOfLeadingZeros 59 = .ok (.iushr, 1) := dk_124 (dk_at dksJ23_numberOfLeadingZeros_2 13 rfl rfl)
theorem dJ23_numberOfLeadingZeros_60 : decode cJ23_numberOfLeadingZeros 60 = .ok (.istore_n 0, 1) := dk_59 (dk_at dksJ23_numberOfLeadingZeros_2 14 rfl rfl)
theorem dJ23_numberOfLeadingZeros_61 : decode cJ23_numberOfLeadingZeros 61 = .ok (.iload_n 0, 1) := dk_26 (dk_at dksJ23_numberOfLeadingZeros_2 15 rfl rfl)
theorem dJ23_numberOfLeadingZeros_62 : decode cJ23_numberOfLeadingZeros 62 = .ok (.iconst 4, 1) := dk_7 (dk_at dksJ23_numberOfLeadingZeros_2 16 rfl rfl)
theorem dJ23_numberOfLeadingZeros_63 : decode cJ23_numberOfLeadingZeros 63 = .ok (.if_icmp .lt 10, 3) := dk_161 0 10 (dk_at dksJ23_numberOfLeadingZeros_2 17 rfl rfl)
theorem dJ23_numberOfLeadingZeros_66 : decode cJ23_numberOfLeadingZeros 66 = .ok (.iinc 1 (-2), 3) := dk_132 1 254 (dk_at dksJ23_numberOfLeadingZeros_2 20 rfl rfl)
theorem dJ23_numberOfLeadingZeros_69 : decode cJ23_numberOfLeadingZeros 69 = .ok (.iload_n 0, 1) := dk_26 (dk_at dksJ23_numberOfLeadingZeros_2 23 rfl rfl)
theorem dJ23_numberOfLeadingZeros_70 : decode cJ23_numberOfLeadingZeros 70 = .ok (.iconst 2, 1) := dk_5 (dk_at dksJ23_numberOfLeadingZeros_3 0 rfl rfl)
theorem dJ23_numberOfLeadingZeros_71 : decode cJ23_numberOfLeadingZeros 71 = .ok (.iushr, 1) := dk_124 (dk_at dksJ23_numberOfLeadingZeros_3 1 rfl rfl)
theorem dJ23_numberOfLeadingZeros_72 : decode cJ23_numberOfLeadingZeros 72 = .ok (.istore_n 0, 1) := dk_59 (dk_at dksJ23_numberOfLeadingZeros_3 2 rfl rfl)
theorem dJ23_numberOfLeadingZeros_73 : decode cJ23_numberOfLeadingZeros 73 = .ok (.iload_n 1, 1) := dk_27 (dk_at dksJ23_numberOfLeadingZeros_3 3 rfl rfl)
theorem dJ23_numberOfLeadingZeros_74 : decode cJ23_numberOfLeadingZeros 74 = .ok (.iload_n 0, 1) := dk_26 (dk_at dksJ23_numberOfLeadingZeros_3 4 rfl rfl)
theorem dJ23_numberOfLeadingZeros_75 : decode cJ23_numberOfLeadingZeros 75 = .ok (.iconst 1, 1) := dk_4 (dk_at dksJ23_numberOfLeadingZeros_3 5 rfl rfl)
theorem dJ23_numberOfLeadingZeros_76 : decode cJ23_numberOfLeadingZeros 76 = .ok (.iushr, 1) := dk_124 (dk_at dksJ23_numberOfLeadingZeros_3 6 rfl rfl)
theorem dJ23_numberOfLeadingZeros_77 : decode cJ23_numberOfLeadingZeros 77 = .ok (.isub, 1) := dk_100 (dk_at dksJ23_numberOfLeadingZeros_3 7 rfl rfl)
theorem dJ23_numberOfLeadingZeros_78 : decode cJ23_numberOfLeadingZeros 78 = .ok (.ireturn, 1) := dk_172 (dk_at dksJ23_numberOfLeadingZeros_3 8 rfl rfl)
abbrev cJ23_numberOfTrailingZeros : ByteArray := prog_37_method_48_code
def yJ23_numberOfTrailingZeros : MethodName := ⟨RJ23, "numberOfTrailingZeros", "(I)I"⟩
def dkwJ23_numberOfTrailingZeros_3 : List UInt8 := [5, 124, 59, 27, 26, 4, 124, 96, 172]
abbrev dktJ23_numberOfTrailingZeros_3 : List UInt8 := dkwJ23_numberOfTrailingZeros_3 ++ []
def dkwJ23_numberOfTrailingZeros_2 : List UInt8 := [124, 59, 26, 16, 16, 164, 0, 10, 132, 1, 4, 26, 7, 124, 59, 26, 7, 164, 0, 10, 132, 1, 2, 26]
abbrev dktJ23_numberOfTrailingZeros_2 : List UInt8 := dkwJ23_numberOfTrailingZeros_2 ++ dktJ23_numberOfTrailingZeros_3
def dkwJ23_numberOfTrailingZeros_1 : List UInt8 := [164, 0, 11, 132, 1, 16, 26, 16, 16, 124, 59, 26, 17, 1, 0, 164, 0, 11, 132, 1, 8, 26, 16, 8]
abbrev dktJ23_numberOfTrailingZeros_1 : List UInt8 := dkwJ23_numberOfTrailingZeros_1 ++ dktJ23_numberOfTrailingZeros_2
def dkwJ23_numberOfTrailingZeros_0 : List UInt8 := [26, 2, 130, 26, 4, 100, 126, 59, 26, 157, 0, 8, 26, 16, 32, 126, 172, 4, 60, 26, 19, 1, 8]
abbrev dktJ23_numberOfTrailingZeros_0 : List UInt8 := dkwJ23_numberOfTrailingZeros_0 ++ dktJ23_numberOfTrailingZeros_1
theorem dksJ23_numberOfTrailingZeros_0 : cJ23_numberOfTrailingZeros.data.toList.drop 0 = dktJ23_numberOfTrailingZeros_0 := by decide +kernel
theorem dksJ23_numberOfTrailingZeros_1 : cJ23_numberOfTrailingZeros.data.toList.drop 23 = dktJ23_numberOfTrailingZeros_1 := dk_seg dksJ23_numberOfTrailingZeros_0 23 rfl rfl
theorem dksJ23_numberOfTrailingZeros_2 : cJ23_numberOfTrailingZeros.data.toList.drop 47 = dktJ23_numberOfTrailingZeros_2 := dk_seg dksJ23_numberOfTrailingZeros_1 24 rfl rfl
theorem dksJ23_numberOfTrailingZeros_3 : cJ23_numberOfTrailingZeros.data.toList.drop 71 = dktJ23_numberOfTrailingZeros_3 := dk_seg dksJ23_numberOfTrailingZeros_2 24 rfl rfl
theorem dJ23_numberOfTrailingZeros_0 : decode cJ23_numberOfTrailingZeros 0 = .ok (.iload_n 0, 1) := dk_26 (dk_at dksJ23_numberOfTrailingZeros_0 0 rfl rfl)
theorem dJ23_numberOfTrailingZeros_1 : decode cJ23_numberOfTrailingZeros 1 = .ok (.iconst (-1), 1) := dk_2 (dk_at dksJ23_numberOfTrailingZeros_0 1 rfl rfl)
theorem dJ23_numberOfTrailingZeros_2 : decode cJ23_numberOfTrailingZeros 2 = .ok (.ixor, 1) := dk_130 (dk_at dksJ23_numberOfTrailingZeros_0 2 rfl rfl)
theorem dJ23_numberOfTrailingZeros_3 : decode cJ23_numberOfTrailingZeros 3 = .ok (.iload_n 0, 1) := dk_26 (dk_at dksJ23_numberOfTrailingZeros_0 3 rfl rfl)
theorem dJ23_numberOfTrailingZeros_4 : decode cJ23_numberOfTrailingZeros 4 = .ok (.iconst 1, 1) := dk_4 (dk_at dksJ23_numberOfTrailingZeros_0 4 rfl rfl)
theorem dJ23_numberOfTrailingZeros_5 : decode cJ23_numberOfTrailingZeros 5 = .ok (.isub, 1) := dk_100 (dk_at dksJ23_numberOfTrailingZeros_0 5 rfl rfl)
theorem dJ23_numberOfTrailingZeros_6 : decode cJ23_numberOfTrailingZeros 6 = .ok (.iand, 1) := dk_126 (dk_at dksJ23_numberOfTrailingZeros_0 6 rfl rfl)
theorem dJ23_numberOfTrailingZeros_7 : decode cJ23_numberOfTrailingZeros 7 = .ok (.istore_n 0, 1) := dk_59 (dk_at dksJ23_numberOfTrailingZeros_0 7 rfl rfl)
theorem dJ23_numberOfTrailingZeros_8 : decode cJ23_numberOfTrailingZeros 8 = .ok (.iload_n 0, 1) := dk_26 (dk_at dksJ23_numberOfTrailingZeros_0 8 rfl rfl)
theorem dJ23_numberOfTrailingZeros_9 : decode cJ23_numberOfTrailingZeros 9 = .ok (.ifCond .gt 8, 3) := dk_157 0 8 (dk_at dksJ23_numberOfTrailingZeros_0 9 rfl rfl)
theorem dJ23_numberOfTrailingZeros_12 : decode cJ23_numberOfTrailingZeros 12 = .ok (.iload_n 0, 1) := dk_26 (dk_at dksJ23_numberOfTrailingZeros_0 12 rfl rfl)
theorem dJ23_numberOfTrailingZeros_13 : decode cJ23_numberOfTrailingZeros 13 = .ok (.bipush 32, 2) := dk_16 32 (dk_at dksJ23_numberOfTrailingZeros_0 13 rfl rfl)
theorem dJ23_numberOfTrailingZeros_15 : decode cJ23_numberOfTrailingZeros 15 = .ok (.iand, 1) := dk_126 (dk_at dksJ23_numberOfTrailingZeros_0 15 rfl rfl)
theorem dJ23_numberOfTrailingZeros_16 : decode cJ23_numberOfTrailingZeros 16 = .ok (.ireturn, 1) := dk_172 (dk_at dksJ23_numberOfTrailingZeros_0 16 rfl rfl)
theorem dJ23_numberOfTrailingZeros_17 : decode cJ23_numberOfTrailingZeros 17 = .ok (.iconst 1, 1) := dk_4 (dk_at dksJ23_numberOfTrailingZeros_0 17 rfl rfl)
theorem dJ23_numberOfTrailingZeros_18 : decode cJ23_numberOfTrailingZeros 18 = .ok (.istore_n 1, 1) := dk_60 (dk_at dksJ23_numberOfTrailingZeros_0 18 rfl rfl)
theorem dJ23_numberOfTrailingZeros_19 : decode cJ23_numberOfTrailingZeros 19 = .ok (.iload_n 0, 1) := dk_26 (dk_at dksJ23_numberOfTrailingZeros_0 19 rfl rfl)
theorem dJ23_numberOfTrailingZeros_20 : decode cJ23_numberOfTrailingZeros 20 = .ok (.ldc_w 264, 3) := dk_19 1 8 (dk_at dksJ23_numberOfTrailingZeros_0 20 rfl rfl)
theorem dJ23_numberOfTrailingZeros_23 : decode cJ23_numberOfTrailingZeros 23 = .ok (.if_icmp .le 11, 3) := dk_164 0 11 (dk_at dksJ23_numberOfTrailingZeros_1 0 rfl rfl)
theorem dJ23_numberOfTrailingZeros_26 : decode cJ23_numberOfTrailingZeros 26 = .ok (.iinc 1 16, 3) := dk_132 1 16 (dk_at dksJ23_numberOfTrailingZeros_1 3 rfl rfl)
theorem dJ23_numberOfTrailingZeros_29 : decode cJ23_numberOfTrailingZeros 29 = .ok (.iload_n 0, 1) := dk_26 (dk_at dksJ23_numberOfTrailingZeros_1 6 rfl rfl)
theorem dJ23_numberOfTrailingZeros_30 : decode cJ23_numberOfTrailingZeros 30 = .ok (.bipush 16, 2) := dk_16 16 (dk_at dksJ23_numberOfTrailingZeros_1 7 rfl rfl)
theorem dJ23_numberOfTrailingZeros_32 : decode cJ23_numberOfTrailingZeros 32 = .ok (.iushr, 1) := dk_124 (dk_at dksJ23_numberOfTrailingZeros_1 9 rfl rfl)
theorem dJ23_numberOfTrailingZeros_33 : decode cJ23_numberOfTrailingZeros 33 = .ok (.istore_n 0, 1) := dk_59 (dk_at dksJ23_numberOfTrailingZeros_1 10 rfl rfl)
theorem dJ23_numberOfTrailingZeros_34 : decode cJ23_numberOfTrailingZeros 34 = .ok (.iload_n 0, 1) := dk_26 (dk_at dksJ23_numberOfTrailingZeros_1 11 rfl rfl)
theorem dJ23_numberOfTrailingZeros_35 : decode cJ23_numberOfTrailingZeros 35 = .ok (.sipush 256, 3) := dk_17 1 0 (dk_at dksJ23_numberOfTrailingZeros_1 12 rfl rfl)
theorem dJ23_numberOfTrailingZeros_38 : decode cJ23_numberOfTrailingZeros 38 = .ok (.if_icmp .le 11, 3) := dk_164 0 11 (dk_at dksJ23_numberOfTrailingZeros_1 15 rfl rfl)
theorem dJ23_numberOfTrailingZeros_41 : decode cJ23_numberOfTrailingZeros 41 = .ok (.iinc 1 8, 3) := dk_132 1 8 (dk_at dksJ23_numberOfTrailingZeros_1 18 rfl rfl)
theorem dJ23_numberOfTrailingZeros_44 : decode cJ23_numberOfTrailingZeros 44 = .ok (.iload_n 0, 1) := dk_26 (dk_at dksJ23_numberOfTrailingZeros_1 21 rfl rfl)
theorem dJ23_numberOfTrailingZeros_45 : decode cJ23_numberOfTrailingZeros 45 = .ok (.bipush 8, 2) := dk_16 8 (dk_at dksJ23_numberOfTrailingZeros_1 22 rfl rfl)
theorem dJ23_numberOfTrailingZeros_47 : decode cJ23_numberOfTrailingZeros 47 = .ok (.iushr, 1) := dk_124 (dk_at dksJ23_numberOfTrailingZeros_2 0 rfl rfl)
theorem dJ23_numberOfTrailingZeros_48 : decode cJ23_numberOfTrailingZeros 48 = .ok (.istore_n 0, 1) := dk_59 (dk_at dksJ23_numberOfTrailingZeros_2 1 rfl rfl)
theorem dJ23_numberOfTrailingZeros_49 : decode cJ23_numberOfTrailingZeros 49 = .ok (.iload_n 0, 1) := dk_26 (dk_at dksJ23_numberOfTrailingZeros_2 2 rfl rfl)
theorem dJ23_numberOfTrailingZeros_50 : decode cJ23_numberOfTrailingZeros 50 = .ok (.bipush 16, 2) := dk_16 16 (dk_at dksJ23_numberOfTrailingZeros_2 3 rfl rfl)
theorem dJ23_numberOfTrailingZeros_52 : decode cJ23_numberOfTrailingZeros 52 = .ok (.if_icmp .le 10, 3) := dk_164 0 10 (dk_at dksJ23_numberOfTrailingZeros_2 5 rfl rfl)
theorem dJ23_numberOfTrailingZeros_55 : decode cJ23_numberOfTrailingZeros 55 = .ok (.iinc 1 4, 3) := dk_132 1 4 (dk_at dksJ23_numberOfTrailingZeros_2 8 rfl rfl)
theorem dJ23_numberOfTrailingZeros_58 : decode cJ23_numberOfTrailingZeros 58 = .ok (.iload_n 0, 1) := dk_26 (dk_at dksJ23_numberOfTrailingZeros_2 11 rfl rfl)
theorem dJ23_numberOfTrailingZeros_59 : decode cJ23_numberOfTrailingZeros 59 = .ok (.iconst 4, 1) := dk_7 (dk_at dksJ23_numberOfTrailingZeros_2 12 rfl rfl)
theorem dJ23_numberOfTrailingZeros_60 : decode cJ23_numberOfTrailingZeros 60 = .ok (.iushr, 1) := dk_124 (dk_at dksJ23_numberOfTrailingZeros_2 13 rfl rfl)
theorem dJ23_numberOfTrailingZeros_61 : decode cJ23_numberOfTrailingZeros 61 = .ok (.istore_n 0, 1) := dk_59 (dk_at dksJ23_numberOfTrailingZeros_2 14 rfl rfl)
theorem dJ23_numberOfTrailingZeros_62 : decode cJ23_numberOfTrailingZeros 62 = .ok (.iload_n 0, 1) := dk_26 (dk_at dksJ23_numberOfTrailingZeros_2 15 rfl rfl)
theorem dJ23_numberOfTrailingZeros_63 : decode cJ23_numberOfTrailingZeros 63 = .ok (.iconst 4, 1) := dk_7 (dk_at dksJ23_numberOfTrailingZeros_2 16 rfl rfl)
theorem dJ23_numberOfTrailingZeros_64 : decode cJ23_numberOfTrailingZeros 64 = .ok (.if_icmp .le 10, 3) := dk_164 0 10 (dk_at dksJ23_numberOfTrailingZeros_2 17 rfl rfl)
theorem dJ23_numberOfTrailingZeros_67 : decode cJ23_numberOfTrailingZeros 67 = .ok (.iinc 1 2, 3) := dk_132 1 2 (dk_at dksJ23_numberOfTrailingZeros_2 20 rfl rfl)
theorem dJ23_numberOfTrailingZeros_70 : decode cJ23_numberOfTrailingZeros 70 = .ok (.iload_n 0, 1) := dk_26 (dk_at dksJ23_numberOfTrailingZeros_2 23 rfl rfl)
theorem dJ23_numberOfTrailingZeros_71 : decode cJ23_numberOfTrailingZeros 71 = .ok (.iconst 2, 1) := dk_5 (dk_at dksJ23_numberOfTrailingZeros_3 0 rfl rfl)
theorem dJ23_numberOfTrailingZeros_72 : decode cJ23_numberOfTrailingZeros 72 = .ok (.iushr, 1) := dk_124 (dk_at dksJ23_numberOfTrailingZeros_3 1 rfl rfl)
theorem dJ23_numberOfTrailingZeros_73 : decode cJ23_numberOfTrailingZeros 73 = .ok (.istore_n 0, 1) := dk_59 (dk_at dksJ23_numberOfTrailingZeros_3 2 rfl rfl)
theorem dJ23_numberOfTrailingZeros_74 : decode cJ23_numberOfTrailingZeros 74 = .ok (.iload_n 1, 1) := dk_27 (dk_at dksJ23_numberOfTrailingZeros_3 3 rfl rfl)
theorem dJ23_numberOfTrailingZeros_75 : decode cJ23_numberOfTrailingZeros 75 = .ok (.iload_n 0, 1) := dk_26 (dk_at dksJ23_numberOfTrailingZeros_3 4 rfl rfl)
theorem dJ23_numberOfTrailingZeros_76 : decode cJ23_numberOfTrailingZeros 76 = .ok (.iconst 1, 1) := dk_4 (dk_at dksJ23_numberOfTrailingZeros_3 5 rfl rfl)
theorem dJ23_numberOfTrailingZeros_77 : decode cJ23_numberOfTrailingZeros 77 = .ok (.iushr, 1) := dk_124 (dk_at dksJ23_numberOfTrailingZeros_3 6 rfl rfl)
theorem dJ23_numberOfTrailingZeros_78 : decode cJ23_numberOfTrailingZeros 78 = .ok (.iadd, 1) := dk_96 (dk_at dksJ23_numberOfTrailingZeros_3 7 rfl rfl)
theorem dJ23_numberOfTrailingZeros_79 : decode cJ23_numberOfTrailingZeros 79 = .ok (.ireturn, 1) := dk_172 (dk_at dksJ23_numberOfTrailingZeros_3 8 rfl rfl)
abbrev cJ23_valueOf : ByteArray := prog_37_method_22_code
def yJ23_valueOf : MethodName := ⟨RJ23, "valueOf", "(I)Ljava/lang/Integer;"⟩
def dkwJ23_valueOf_1 : List UInt8 := [187, 0, 1, 89, 26, 183, 0, 199, 176]
abbrev dktJ23_valueOf_1 : List UInt8 := dkwJ23_valueOf_1 ++ []
def dkwJ23_valueOf_0 : List UInt8 := [26, 16, 128, 161, 0, 20, 26, 178, 0, 191, 163, 0, 13, 178, 0, 195, 26, 17, 0, 128, 96, 50, 176]
abbrev dktJ23_valueOf_0 : List UInt8 := dkwJ23_valueOf_0 ++ dktJ23_valueOf_1
theorem dksJ23_valueOf_0 : cJ23_valueOf.data.toList.drop 0 = dktJ23_valueOf_0 := by decide +kernel
theorem dksJ23_valueOf_1 : cJ23_valueOf.data.toList.drop 23 = dktJ23_valueOf_1 := dk_seg dksJ23_valueOf_0 23 rfl rfl
theorem dJ23_valueOf_0 : decode cJ23_valueOf 0 = .ok (.iload_n 0, 1) := dk_26 (dk_at dksJ23_valueOf_0 0 rfl rfl)
theorem dJ23_valueOf_1 : decode cJ23_valueOf 1 = .ok (.bipush (-128), 2) := dk_16 128 (dk_at dksJ23_valueOf_0 1 rfl rfl)
theorem dJ23_valueOf_3 : decode cJ23_valueOf 3 = .ok (.if_icmp .lt 20, 3) := dk_161 0 20 (dk_at dksJ23_valueOf_0 3 rfl rfl)
theorem dJ23_valueOf_6 : decode cJ23_valueOf 6 = .ok (.iload_n 0, 1) := dk_26 (dk_at dksJ23_valueOf_0 6 rfl rfl)
theorem dJ23_valueOf_7 : decode cJ23_valueOf 7 = .ok (.getstatic 191, 3) := dk_178 0 191 (dk_at dksJ23_valueOf_0 7 rfl rfl)
theorem dJ23_valueOf_10 : decode cJ23_valueOf 10 = .ok (.if_icmp .gt 13, 3) := dk_163 0 13 (dk_at dksJ23_valueOf_0 10 rfl rfl)
theorem dJ23_valueOf_13 : decode cJ23_valueOf 13 = .ok (.getstatic 195, 3) := dk_178 0 195 (dk_at dksJ23_valueOf_0 13 rfl rfl)
theorem dJ23_valueOf_16 : decode cJ23_valueOf 16 = .ok (.iload_n 0, 1) := dk_26 (dk_at dksJ23_valueOf_0 16 rfl rfl)
theorem dJ23_valueOf_17 : decode cJ23_valueOf 17 = .ok (.sipush 128, 3) := dk_17 0 128 (dk_at dksJ23_valueOf_0 17 rfl rfl)
theorem dJ23_valueOf_20 : decode cJ23_valueOf 20 = .ok (.iadd, 1) := dk_96 (dk_at dksJ23_valueOf_0 20 rfl rfl)
theorem dJ23_valueOf_21 : decode cJ23_valueOf 21 = .ok (.aaload, 1) := dk_50 (dk_at dksJ23_valueOf_0 21 rfl rfl)
theorem dJ23_valueOf_22 : decode cJ23_valueOf 22 = .ok (.areturn, 1) := dk_176 (dk_at dksJ23_valueOf_0 22 rfl rfl)
theorem dJ23_valueOf_23 : decode cJ23_valueOf 23 = .ok (.new 1, 3) := dk_187 0 1 (dk_at dksJ23_valueOf_1 0 rfl rfl)
theorem dJ23_valueOf_26 : decode cJ23_valueOf 26 = .ok (.dup, 1) := dk_89 (dk_at dksJ23_valueOf_1 3 rfl rfl)
theorem dJ23_valueOf_27 : decode cJ23_valueOf 27 = .ok (.iload_n 0, 1) := dk_26 (dk_at dksJ23_valueOf_1 4 rfl rfl)
theorem dJ23_valueOf_28 : decode cJ23_valueOf 28 = .ok (.invokespecial 199, 3) := dk_183 0 199 (dk_at dksJ23_valueOf_1 5 rfl rfl)
theorem dJ23_valueOf_31 : decode cJ23_valueOf 31 = .ok (.areturn, 1) := dk_176 (dk_at dksJ23_valueOf_1 8 rfl rfl)
abbrev cJ23_init : ByteArray := prog_37_method_23_code
def yJ23_init : MethodName := ⟨RJ23, "<init>", "(I)V"⟩
def dkwJ23_init_0 : List UInt8 := [42, 183, 0, 202, 42, 27, 181, 0, 205, 177]
abbrev dktJ23_init_0 : List UInt8 := dkwJ23_init_0 ++ []
theorem dksJ23_init_0 : cJ23_init.data.toList.drop 0 = dktJ23_init_0 := by decide +kernel
theorem dJ23_init_0 : decode cJ23_init 0 = .ok (.aload_n 0, 1) := dk_42 (dk_at dksJ23_init_0 0 rfl rfl)
theorem dJ23_init_1 : decode cJ23_init 1 = .ok (.invokespecial 202, 3) := dk_183 0 202 (dk_at dksJ23_init_0 1 rfl rfl)
theorem dJ23_init_4 : decode cJ23_init 4 = .ok (.aload_n 0, 1) := dk_42 (dk_at dksJ23_init_0 4 rfl rfl)
theorem dJ23_init_5 : decode cJ23_init 5 = .ok (.iload_n 1, 1) := dk_27 (dk_at dksJ23_init_0 5 rfl rfl)
theorem dJ23_init_6 : decode cJ23_init 6 = .ok (.putfield 205, 3) := dk_181 0 205 (dk_at dksJ23_init_0 6 rfl rfl)
theorem dJ23_init_9 : decode cJ23_init 9 = .ok (.return_, 1) := dk_177 (dk_at dksJ23_init_0 9 rfl rfl)
theorem q126 : (Jvm.Cond.initialized "java/lang/Integer") ∈ lw_all := lw_g (lw_at lw_m1 30 rfl) rfl
theorem q768 : (Jvm.Cond.static ({ cls := "java/lang/Integer", name := "stringSize", desc := "(I)I" } : Jvm.MethodName)) ∈ lw_all := lw_g (lw_at lw_m3 192 rfl) rfl
theorem q769 : (Jvm.Cond.code ({ cls := "java/lang/Integer", name := "stringSize", desc := "(I)I" } : Jvm.MethodName) prog_37_method_13_code (4 : Nat) (Option.some Jvm.ClassFile.FieldType.int)) ∈ lw_all := lw_g (lw_at lw_m3 193 rfl) rfl
theorem q771 : (Jvm.Cond.static ({ cls := "java/lang/Integer", name := "getChars", desc := "(II[B)I" } : Jvm.MethodName)) ∈ lw_all := lw_g (lw_at lw_m3 195 rfl) rfl
theorem q772 : (Jvm.Cond.code ({ cls := "java/lang/Integer", name := "getChars", desc := "(II[B)I" } : Jvm.MethodName) prog_37_method_12_code (7 : Nat) (Option.some Jvm.ClassFile.FieldType.int)) ∈ lw_all := lw_g (lw_at lw_m3 196 rfl) rfl
theorem q773 : (Jvm.Cond.fieldLink "java/lang/Integer" (83 : Nat) "java/lang/Integer" "DigitOnes" "[B") ∈ lw_all := lw_g (lw_at lw_m3 197 rfl) rfl
theorem q774 : (Jvm.Cond.laysStatic "java/lang/Integer" "DigitOnes" "[B") ∈ lw_tbl := lw_at lw_m3 198 rfl
theorem q775 : (Jvm.Cond.fieldLink "java/lang/Integer" (87 : Nat) "java/lang/Integer" "DigitTens" "[B") ∈ lw_all := lw_g (lw_at lw_m3 199 rfl) rfl
theorem q776 : (Jvm.Cond.laysStatic "java/lang/Integer" "DigitTens" "[B") ∈ lw_tbl := lw_at lw_m3 200 rfl
theorem q1085 : (Jvm.Cond.selects "java/lang/Integer" ({ cls := "java/lang/Object", name := "getClass", desc := "()Ljava/lang/Class;" } : Jvm.MethodName) ({ cls := "java/lang/Object", name := "getClass", desc := "()Ljava/lang/Class;" } : Jvm.MethodName)) ∈ lw_all := lw_g (lw_at lw_m5 29 rfl) rfl
theorem q1829 : (Jvm.Cond.selects "java/lang/Integer" ({ cls := "java/lang/Object", name := "equals", desc := "(Ljava/lang/Object;)Z" } : Jvm.MethodName) ({ cls := "java/lang/Integer", name := "equals", desc := "(Ljava/lang/Object;)Z" } : Jvm.MethodName)) ∈ lw_all := lw_g (lw_at lw_m8 53 rfl) rfl
theorem q1830 : (Jvm.Cond.instanceMethod ({ cls := "java/lang/Integer", name := "equals", desc := "(Ljava/lang/Object;)Z" } : Jvm.MethodName)) ∈ lw_all := lw_g (lw_at lw_m8 54 rfl) rfl
theorem q1831 : (Jvm.Cond.code ({ cls := "java/lang/Integer", name := "equals", desc := "(Ljava/lang/Object;)Z" } : Jvm.MethodName) prog_37_method_34_code (2 : Nat) (Option.some Jvm.ClassFile.FieldType.boolean)) ∈ lw_all := lw_g (lw_at lw_m8 55 rfl) rfl
theorem q1832 : (Jvm.Cond.classLink "java/lang/Integer" (1 : Nat) "java/lang/Integer") ∈ lw_all := lw_g (lw_at lw_m8 56 rfl) rfl
theorem q1833 : (Jvm.Cond.methodLink "java/lang/Integer" (211 : Nat) ({ cls := "java/lang/Integer", name := "intValue", desc := "()I" } : Jvm.MethodName)) ∈ lw_all := lw_g (lw_at lw_m8 57 rfl) rfl
theorem q1834 : (Jvm.Cond.instanceMethod ({ cls := "java/lang/Integer", name := "intValue", desc := "()I" } : Jvm.MethodName)) ∈ lw_all := lw_g (lw_at lw_m8 58 rfl) rfl
theorem q1835 : (Jvm.Cond.selects "java/lang/Integer" ({ cls := "java/lang/Integer", name := "intValue", desc := "()I" } : Jvm.MethodName) ({ cls := "java/lang/Integer", name := "intValue", desc := "()I" } : Jvm.MethodName)) ∈ lw_all := lw_g (lw_at lw_m8 59 rfl) rfl
theorem q1836 : (Jvm.Cond.code ({ cls := "java/lang/Integer", name := "intValue", desc := "()I" } : Jvm.MethodName) prog_37_method_27_code (1 : Nat) (Option.some Jvm.ClassFile.FieldType.int)) ∈ lw_all := lw_g (lw_at lw_m8 60 rfl) rfl
theorem q2182 : (Jvm.Cond.castable "java/lang/Integer" "java/lang/Comparable") ∈ lw_tbl := lw_at lw_m9 166 rfl
theorem q2183 : (Jvm.Cond.selects "java/lang/Integer" ({ cls := "java/lang/Comparable", name := "compareTo", desc := "(Ljava/lang/Object;)I" } : Jvm.MethodName) ({ cls := "java/lang/Integer", name := "compareTo", desc := "(Ljava/lang/Object;)I" } : Jvm.MethodName)) ∈ lw_all := lw_g (lw_at lw_m9 167 rfl) rfl
theorem q2184 : (Jvm.Cond.unhidden "java/lang/Integer" "compareTo" "(Ljava/lang/Object;)I") ∈ lw_tbl := lw_at lw_m9 168 rfl
theorem q2185 : (Jvm.Cond.instanceMethod ({ cls := "java/lang/Integer", name := "compareTo", desc := "(Ljava/lang/Object;)I" } : Jvm.MethodName)) ∈ lw_all := lw_g (lw_at lw_m9 169 rfl) rfl
theorem q2186 : (Jvm.Cond.publicMethod ({ cls := "java/lang/Integer", name := "compareTo", desc := "(Ljava/lang/Object;)I" } : Jvm.MethodName)) ∈ lw_tbl := lw_at lw_m9 170 rfl
theorem q2187 : (Jvm.Cond.code ({ cls := "java/lang/Integer", name := "compareTo", desc := "(Ljava/lang/Object;)I" } : Jvm.MethodName) prog_37_method_63_code (2 : Nat) (Option.some Jvm.ClassFile.FieldType.int)) ∈ lw_all := lw_g (lw_at lw_m9 171 rfl) rfl
theorem q2188 : (Jvm.Cond.methodLink "java/lang/Integer" (284 : Nat) ({ cls := "java/lang/Integer", name := "compareTo", desc := "(Ljava/lang/Integer;)I" } : Jvm.MethodName)) ∈ lw_all := lw_g (lw_at lw_m9 172 rfl) rfl
theorem q2189 : (Jvm.Cond.instanceMethod ({ cls := "java/lang/Integer", name := "compareTo", desc := "(Ljava/lang/Integer;)I" } : Jvm.MethodName)) ∈ lw_all := lw_g (lw_at lw_m9 173 rfl) rfl
theorem q2190 : (Jvm.Cond.selects "java/lang/Integer" ({ cls := "java/lang/Integer", name := "compareTo", desc := "(Ljava/lang/Integer;)I" } : Jvm.MethodName) ({ cls := "java/lang/Integer", name := "compareTo", desc := "(Ljava/lang/Integer;)I" } : Jvm.MethodName)) ∈ lw_all := lw_g (lw_at lw_m9 174 rfl) rfl
theorem q2191 : (Jvm.Cond.code ({ cls := "java/lang/Integer", name := "compareTo", desc := "(Ljava/lang/Integer;)I" } : Jvm.MethodName) prog_37_method_39_code (2 : Nat) (Option.some Jvm.ClassFile.FieldType.int)) ∈ lw_all := lw_g (lw_at lw_m9 175 rfl) rfl
theorem q2192 : (Jvm.Cond.methodLink "java/lang/Integer" (259 : Nat) ({ cls := "java/lang/Integer", name := "compare", desc := "(II)I" } : Jvm.MethodName)) ∈ lw_all := lw_g (lw_at lw_m9 176 rfl) rfl
theorem q2193 : (Jvm.Cond.static ({ cls := "java/lang/Integer", name := "compare", desc := "(II)I" } : Jvm.MethodName)) ∈ lw_all := lw_g (lw_at lw_m9 177 rfl) rfl
theorem q2194 : (Jvm.Cond.code ({ cls := "java/lang/Integer", name := "compare", desc := "(II)I" } : Jvm.MethodName) prog_37_method_40_code (2 : Nat) (Option.some Jvm.ClassFile.FieldType.int)) ∈ lw_all := lw_g (lw_at lw_m9 178 rfl) rfl
theorem q2284 : (Jvm.Cond.static ({ cls := "java/lang/Integer", name := "numberOfLeadingZeros", desc := "(I)I" } : Jvm.MethodName)) ∈ lw_all := lw_g (lw_at lw_m10 28 rfl) rfl
theorem q2285 : (Jvm.Cond.code ({ cls := "java/lang/Integer", name := "numberOfLeadingZeros", desc := "(I)I" } : Jvm.MethodName) prog_37_method_47_code (2 : Nat) (Option.some Jvm.ClassFile.FieldType.int)) ∈ lw_all := lw_g (lw_at lw_m10 29 rfl) rfl
theorem q2286 : (Jvm.Cond.constant "java/lang/Integer" (264 : Nat) (65536 : Int32)) ∈ lw_all := lw_g (lw_at lw_m10 30 rfl) rfl
theorem q2293 : (Jvm.Cond.static ({ cls := "java/lang/Integer", name := "numberOfTrailingZeros", desc := "(I)I" } : Jvm.MethodName)) ∈ lw_all := lw_g (lw_at lw_m10 37 rfl) rfl
theorem q2294 : (Jvm.Cond.code ({ cls := "java/lang/Integer", name := "numberOfTrailingZeros", desc := "(I)I" } : Jvm.MethodName) prog_37_method_48_code (2 : Nat) (Option.some Jvm.ClassFile.FieldType.int)) ∈ lw_all := lw_g (lw_at lw_m10 38 rfl) rfl
theorem q2625 : (Jvm.Cond.static ({ cls := "java/lang/Integer", name := "valueOf", desc := "(I)Ljava/lang/Integer;" } : Jvm.MethodName)) ∈ lw_all := lw_g (lw_at lw_m11 129 rfl) rfl
theorem q2626 : (Jvm.Cond.code ({ cls := "java/lang/Integer", name := "valueOf", desc := "(I)Ljava/lang/Integer;" } : Jvm.MethodName) prog_37_method_22_code (1 : Nat) (Option.some (Jvm.ClassFile.FieldType.object "java/lang/Integer"))) ∈ lw_all := lw_g (lw_at lw_m11 130 rfl) rfl
theorem q2627 : (Jvm.Cond.fieldLink "java/lang/Integer" (191 : Nat) "java/lang/Integer$IntegerCache" "high" "I") ∈ lw_all := lw_g (lw_at lw_m11 131 rfl) rfl
theorem q2629 : (Jvm.Cond.fieldLink "java/lang/Integer" (195 : Nat) "java/lang/Integer$IntegerCache" "cache" "[Ljava/lang/Integer;") ∈ lw_all := lw_g (lw_at lw_m11 133 rfl) rfl
theorem q2631 : (Jvm.Cond.instantiable "java/lang/Integer" (1 : Nat)) ∈ lw_all := lw_g (lw_at lw_m11 135 rfl) rfl
theorem q2632 : (Jvm.Cond.methodLink "java/lang/Integer" (199 : Nat) ({ cls := "java/lang/Integer", name := "<init>", desc := "(I)V" } : Jvm.MethodName)) ∈ lw_all := lw_g (lw_at lw_m11 136 rfl) rfl
theorem q2633 : (Jvm.Cond.instanceMethod ({ cls := "java/lang/Integer", name := "<init>", desc := "(I)V" } : Jvm.MethodName)) ∈ lw_all := lw_g (lw_at lw_m11 137 rfl) rfl
theorem q2634 : (Jvm.Cond.code ({ cls := "java/lang/Integer", name := "<init>", desc := "(I)V" } : Jvm.MethodName) prog_37_method_23_code (2 : Nat) (Option.none : Option Jvm.ClassFile.FieldType)) ∈ lw_all := lw_g (lw_at lw_m11 138 rfl) rfl
theorem q2635 : (Jvm.Cond.methodLink "java/lang/Integer" (202 : Nat) ({ cls := "java/lang/Number", name := "<init>", desc := "()V" } : Jvm.MethodName)) ∈ lw_all := lw_g (lw_at lw_m11 139 rfl) rfl
theorem q2639 : (Jvm.Cond.fieldLink "java/lang/Integer" (205 : Nat) "java/lang/Integer" "value" "I") ∈ lw_all := lw_g (lw_at lw_m11 143 rfl) rfl
theorem q2640 : (Jvm.Cond.laysFinal "java/lang/Integer" "java/lang/Integer" "value" "I") ∈ lw_all := lw_g (lw_at lw_m11 144 rfl) rfl
theorem q2641 : (Jvm.Cond.soleField "java/lang/Integer" "value") ∈ lw_all := lw_g (lw_at lw_m11 145 rfl) rfl
theorem q2642 : (Jvm.Cond.superclass "java/lang/Integer" "java/lang/Number") ∈ lw_all := lw_g (lw_at lw_m11 146 rfl) rfl
theorem q3351 : (Jvm.Cond.castable "java/lang/Integer" "java/lang/Object") ∈ lw_tbl := lw_at lw_m14 135 rfl
theorem in_J23 : ∀ w ∈ wsJ230, w ∈ lw_all := lw_in wsJ230 [2640] (by decide +kernel) (by decide +kernel)
/-! java/util/Objects -/
def RJ25 : String := "java/util/Objects"
abbrev cJ25_checkIndex : ByteArray := prog_77_method_17_code
def yJ25_checkIndex : MethodName := ⟨RJ25, "checkIndex", "(II)I"⟩
def dkwJ25_checkIndex_0 : List UInt8 := [26, 27, 1, 184, 0, 105, 172]
abbrev dktJ25_checkIndex_0 : List UInt8 := dkwJ25_checkIndex_0 ++ []
theorem dksJ25_checkIndex_0 : cJ25_checkIndex.data.toList.drop 0 = dktJ25_checkIndex_0 := by decide +kernel
theorem dJ25_checkIndex_0 : decode cJ25_checkIndex 0 = .ok (.iload_n 0, 1) := dk_26 (dk_at dksJ25_checkIndex_0 0 rfl rfl)
theorem dJ25_checkIndex_1 : decode cJ25_checkIndex 1 = .ok (.iload_n 1, 1) := dk_27 (dk_at dksJ25_checkIndex_0 1 rfl rfl)
theorem dJ25_checkIndex_2 : decode cJ25_checkIndex 2 = .ok (.aconst_null, 1) := dk_1 (dk_at dksJ25_checkIndex_0 2 rfl rfl)
theorem dJ25_checkIndex_3 : decode cJ25_checkIndex 3 = .ok (.invokestatic 105, 3) := dk_184 0 105 (dk_at dksJ25_checkIndex_0 3 rfl rfl)
theorem dJ25_checkIndex_6 : decode cJ25_checkIndex 6 = .ok (.ireturn, 1) := dk_172 (dk_at dksJ25_checkIndex_0 6 rfl rfl)
theorem q133 : (Jvm.Cond.initialized "java/util/Objects") ∈ lw_all := lw_g (lw_at lw_m1 37 rfl) rfl
theorem q1227 : (Jvm.Cond.static ({ cls := "java/util/Objects", name := "checkIndex", desc := "(II)I" } : Jvm.MethodName)) ∈ lw_all := lw_g (lw_at lw_m5 171 rfl) rfl
theorem q1228 : (Jvm.Cond.code ({ cls := "java/util/Objects", name := "checkIndex", desc := "(II)I" } : Jvm.MethodName) prog_77_method_17_code (2 : Nat) (Option.some Jvm.ClassFile.FieldType.int)) ∈ lw_all := lw_g (lw_at lw_m5 172 rfl) rfl
theorem q1229 : (Jvm.Cond.methodLink "java/util/Objects" (105 : Nat) ({ cls := "jdk/internal/util/Preconditions", name := "checkIndex", desc := "(IILjava/util/function/BiFunction;)I" } : Jvm.MethodName)) ∈ lw_all := lw_g (lw_at lw_m5 173 rfl) rfl
/-! java/util/ArrayList$Itr -/
def RJ26 : String := "java/util/ArrayList$Itr"
def TJ26 : u_T := fun k => match k with
  | 0 => ("java/util/ArrayList$Itr", "cursor", "I", false)
  | 1 => ("java/util/ArrayList$Itr", "lastRet", "I", false)
  | 2 => ("java/util/ArrayList$Itr", "expectedModCount", "I", false)
  | _ => ("java/util/ArrayList$Itr", "this$0", "Ljava/util/ArrayList;", true)
def tyJ26 : Nat → FieldType := fun k => match k with
  | 0 => .int
  | 1 => .int
  | 2 => .int
  | _ => .object "java/util/ArrayList"
abbrev wsJ260 : List Cond := u_ws RJ26 TJ26 4
theorem nmJ26 : ∀ a, a < 4 → ∀ b, b < 4 → a ≠ b → (TJ26 a).2.1 ≠ (TJ26 b).2.1 := by decide +kernel
theorem tyJ26_ok : ∀ k, k < 4 → parseFieldDescriptor (TJ26 k).2.2.1 = some (tyJ26 k) := by decide +kernel
abbrev cJ26_init : ByteArray := prog_63_method_1_code
def yJ26_init : MethodName := ⟨RJ26, "<init>", "(Ljava/util/ArrayList;)V"⟩
def dkwJ26_init_1 : List UInt8 := [181, 0, 22, 177]
abbrev dktJ26_init_1 : List UInt8 := dkwJ26_init_1 ++ []
def dkwJ26_init_0 : List UInt8 := [42, 43, 181, 0, 1, 42, 183, 0, 7, 42, 2, 181, 0, 13, 42, 42, 180, 0, 1, 180, 0, 17]
abbrev dktJ26_init_0 : List UInt8 := dkwJ26_init_0 ++ dktJ26_init_1
theorem dksJ26_init_0 : cJ26_init.data.toList.drop 0 = dktJ26_init_0 := by decide +kernel
theorem dksJ26_init_1 : cJ26_init.data.toList.drop 22 = dktJ26_init_1 := dk_seg dksJ26_init_0 22 rfl rfl
theorem dJ26_init_0 : decode cJ26_init 0 = .ok (.aload_n 0, 1) := dk_42 (dk_at dksJ26_init_0 0 rfl rfl)
theorem dJ26_init_1 : decode cJ26_init 1 = .ok (.aload_n 1, 1) := dk_43 (dk_at dksJ26_init_0 1 rfl rfl)
theorem dJ26_init_2 : decode cJ26_init 2 = .ok (.putfield 1, 3) := dk_181 0 1 (dk_at dksJ26_init_0 2 rfl rfl)
theorem dJ26_init_5 : decode cJ26_init 5 = .ok (.aload_n 0, 1) := dk_42 (dk_at dksJ26_init_0 5 rfl rfl)
theorem dJ26_init_6 : decode cJ26_init 6 = .ok (.invokespecial 7, 3) := dk_183 0 7 (dk_at dksJ26_init_0 6 rfl rfl)
theorem dJ26_init_9 : decode cJ26_init 9 = .ok (.aload_n 0, 1) := dk_42 (dk_at dksJ26_init_0 9 rfl rfl)
theorem dJ26_init_10 : decode cJ26_init 10 = .ok (.iconst (-1), 1) := dk_2 (dk_at dksJ26_init_0 10 rfl rfl)
theorem dJ26_init_11 : decode cJ26_init 11 = .ok (.putfield 13, 3) := dk_181 0 13 (dk_at dksJ26_init_0 11 rfl rfl)
theorem dJ26_init_14 : decode cJ26_init 14 = .ok (.aload_n 0, 1) := dk_42 (dk_at dksJ26_init_0 14 rfl rfl)
theorem dJ26_init_15 : decode cJ26_init 15 = .ok (.aload_n 0, 1) := dk_42 (dk_at dksJ26_init_0 15 rfl rfl)
theorem dJ26_init_16 : decode cJ26_init 16 = .ok (.getfield 1, 3) := dk_180 0 1 (dk_at dksJ26_init_0 16 rfl rfl)
theorem dJ26_init_19 : decode cJ26_init 19 = .ok (.getfield 17, 3) := dk_180 0 17 (dk_at dksJ26_init_0 19 rfl rfl)
theorem dJ26_init_22 : decode cJ26_init 22 = .ok (.putfield 22, 3) := dk_181 0 22 (dk_at dksJ26_init_1 0 rfl rfl)
theorem dJ26_init_25 : decode cJ26_init 25 = .ok (.return_, 1) := dk_177 (dk_at dksJ26_init_1 3 rfl rfl)
abbrev cJ26_hasNext : ByteArray := prog_63_method_2_code
def yJ26_hasNext : MethodName := ⟨RJ26, "hasNext", "()Z"⟩
def dkwJ26_hasNext_0 : List UInt8 := [42, 180, 0, 25, 42, 180, 0, 1, 180, 0, 28, 159, 0, 7, 4, 167, 0, 4, 3, 172]
abbrev dktJ26_hasNext_0 : List UInt8 := dkwJ26_hasNext_0 ++ []
theorem dksJ26_hasNext_0 : cJ26_hasNext.data.toList.drop 0 = dktJ26_hasNext_0 := by decide +kernel
theorem dJ26_hasNext_0 : decode cJ26_hasNext 0 = .ok (.aload_n 0, 1) := dk_42 (dk_at dksJ26_hasNext_0 0 rfl rfl)
theorem dJ26_hasNext_1 : decode cJ26_hasNext 1 = .ok (.getfield 25, 3) := dk_180 0 25 (dk_at dksJ26_hasNext_0 1 rfl rfl)
theorem dJ26_hasNext_4 : decode cJ26_hasNext 4 = .ok (.aload_n 0, 1) := dk_42 (dk_at dksJ26_hasNext_0 4 rfl rfl)
theorem dJ26_hasNext_5 : decode cJ26_hasNext 5 = .ok (.getfield 1, 3) := dk_180 0 1 (dk_at dksJ26_hasNext_0 5 rfl rfl)
theorem dJ26_hasNext_8 : decode cJ26_hasNext 8 = .ok (.getfield 28, 3) := dk_180 0 28 (dk_at dksJ26_hasNext_0 8 rfl rfl)
theorem dJ26_hasNext_11 : decode cJ26_hasNext 11 = .ok (.if_icmp .eq 7, 3) := dk_159 0 7 (dk_at dksJ26_hasNext_0 11 rfl rfl)
theorem dJ26_hasNext_14 : decode cJ26_hasNext 14 = .ok (.iconst 1, 1) := dk_4 (dk_at dksJ26_hasNext_0 14 rfl rfl)
theorem dJ26_hasNext_15 : decode cJ26_hasNext 15 = .ok (.goto 4, 3) := dk_167 0 4 (dk_at dksJ26_hasNext_0 15 rfl rfl)
theorem dJ26_hasNext_18 : decode cJ26_hasNext 18 = .ok (.iconst 0, 1) := dk_3 (dk_at dksJ26_hasNext_0 18 rfl rfl)
theorem dJ26_hasNext_19 : decode cJ26_hasNext 19 = .ok (.ireturn, 1) := dk_172 (dk_at dksJ26_hasNext_0 19 rfl rfl)
abbrev cJ26_next : ByteArray := prog_63_method_3_code
def yJ26_next : MethodName := ⟨RJ26, "next", "()Ljava/lang/Object;"⟩
def dkwJ26_next_2 : List UInt8 := [183, 0, 43, 191, 42, 27, 4, 96, 181, 0, 25, 44, 42, 27, 90, 181, 0, 13, 50, 176]
abbrev dktJ26_next_2 : List UInt8 := dkwJ26_next_2 ++ []
def dkwJ26_next_1 : List UInt8 := [183, 0, 36, 191, 42, 180, 0, 1, 180, 0, 37, 77, 27, 44, 190, 161, 0, 11, 187, 0, 41, 89]
abbrev dktJ26_next_1 : List UInt8 := dkwJ26_next_1 ++ dktJ26_next_2
def dkwJ26_next_0 : List UInt8 := [42, 182, 0, 31, 42, 180, 0, 25, 60, 27, 42, 180, 0, 1, 180, 0, 28, 161, 0, 11, 187, 0, 34, 89]
abbrev dktJ26_next_0 : List UInt8 := dkwJ26_next_0 ++ dktJ26_next_1
theorem dksJ26_next_0 : cJ26_next.data.toList.drop 0 = dktJ26_next_0 := by decide +kernel
theorem dksJ26_next_1 : cJ26_next.data.toList.drop 24 = dktJ26_next_1 := dk_seg dksJ26_next_0 24 rfl rfl
theorem dksJ26_next_2 : cJ26_next.data.toList.drop 46 = dktJ26_next_2 := dk_seg dksJ26_next_1 22 rfl rfl
theorem dJ26_next_0 : decode cJ26_next 0 = .ok (.aload_n 0, 1) := dk_42 (dk_at dksJ26_next_0 0 rfl rfl)
theorem dJ26_next_1 : decode cJ26_next 1 = .ok (.invokevirtual 31, 3) := dk_182 0 31 (dk_at dksJ26_next_0 1 rfl rfl)
theorem dJ26_next_4 : decode cJ26_next 4 = .ok (.aload_n 0, 1) := dk_42 (dk_at dksJ26_next_0 4 rfl rfl)
theorem dJ26_next_5 : decode cJ26_next 5 = .ok (.getfield 25, 3) := dk_180 0 25 (dk_at dksJ26_next_0 5 rfl rfl)
theorem dJ26_next_8 : decode cJ26_next 8 = .ok (.istore_n 1, 1) := dk_60 (dk_at dksJ26_next_0 8 rfl rfl)
theorem dJ26_next_9 : decode cJ26_next 9 = .ok (.iload_n 1, 1) := dk_27 (dk_at dksJ26_next_0 9 rfl rfl)
theorem dJ26_next_10 : decode cJ26_next 10 = .ok (.aload_n 0, 1) := dk_42 (dk_at dksJ26_next_0 10 rfl rfl)
theorem dJ26_next_11 : decode cJ26_next 11 = .ok (.getfield 1, 3) := dk_180 0 1 (dk_at dksJ26_next_0 11 rfl rfl)
theorem dJ26_next_14 : decode cJ26_next 14 = .ok (.getfield 28, 3) := dk_180 0 28 (dk_at dksJ26_next_0 14 rfl rfl)
theorem dJ26_next_17 : decode cJ26_next 17 = .ok (.if_icmp .lt 11, 3) := dk_161 0 11 (dk_at dksJ26_next_0 17 rfl rfl)
theorem dJ26_next_20 : decode cJ26_next 20 = .ok (.new 34, 3) := dk_187 0 34 (dk_at dksJ26_next_0 20 rfl rfl)
theorem dJ26_next_23 : decode cJ26_next 23 = .ok (.dup, 1) := dk_89 (dk_at dksJ26_next_0 23 rfl rfl)
theorem dJ26_next_24 : decode cJ26_next 24 = .ok (.invokespecial 36, 3) := dk_183 0 36 (dk_at dksJ26_next_1 0 rfl rfl)
theorem dJ26_next_27 : decode cJ26_next 27 = .ok (.athrow, 1) := dk_191 (dk_at dksJ26_next_1 3 rfl rfl)
theorem dJ26_next_28 : decode cJ26_next 28 = .ok (.aload_n 0, 1) := dk_42 (dk_at dksJ26_next_1 4 rfl rfl)
theorem dJ26_next_29 : decode cJ26_next 29 = .ok (.getfield 1, 3) := dk_180 0 1 (dk_at dksJ26_next_1 5 rfl rfl)
theorem dJ26_next_32 : decode cJ26_next 32 = .ok (.getfield 37, 3) := dk_180 0 37 (dk_at dksJ26_next_1 8 rfl rfl)
theorem dJ26_next_35 : decode cJ26_next 35 = .ok (.astore_n 2, 1) := dk_77 (dk_at dksJ26_next_1 11 rfl rfl)
theorem dJ26_next_36 : decode cJ26_next 36 = .ok (.iload_n 1, 1) := dk_27 (dk_at dksJ26_next_1 12 rfl rfl)
theorem dJ26_next_37 : decode cJ26_next 37 = .ok (.aload_n 2, 1) := dk_44 (dk_at dksJ26_next_1 13 rfl rfl)
theorem dJ26_next_38 : decode cJ26_next 38 = .ok (.arraylength, 1) := dk_190 (dk_at dksJ26_next_1 14 rfl rfl)
theorem dJ26_next_39 : decode cJ26_next 39 = .ok (.if_icmp .lt 11, 3) := dk_161 0 11 (dk_at dksJ26_next_1 15 rfl rfl)
theorem dJ26_next_42 : decode cJ26_next 42 = .ok (.new 41, 3) := dk_187 0 41 (dk_at dksJ26_next_1 18 rfl rfl)
theorem dJ26_next_45 : decode cJ26_next 45 = .ok (.dup, 1) := dk_89 (dk_at dksJ26_next_1 21 rfl rfl)
theorem dJ26_next_46 : decode cJ26_next 46 = .ok (.invokespecial 43, 3) := dk_183 0 43 (dk_at dksJ26_next_2 0 rfl rfl)
theorem dJ26_next_49 : decode cJ26_next 49 = .ok (.athrow, 1) := dk_191 (dk_at dksJ26_next_2 3 rfl rfl)
theorem dJ26_next_50 : decode cJ26_next 50 = .ok (.aload_n 0, 1) := dk_42 (dk_at dksJ26_next_2 4 rfl rfl)
theorem dJ26_next_51 : decode cJ26_next 51 = .ok (.iload_n 1, 1) := dk_27 (dk_at dksJ26_next_2 5 rfl rfl)
theorem dJ26_next_52 : decode cJ26_next 52 = .ok (.iconst 1, 1) := dk_4 (dk_at dksJ26_next_2 6 rfl rfl)
theorem dJ26_next_53 : decode cJ26_next 53 = .ok (.iadd, 1) := dk_96 (dk_at dksJ26_next_2 7 rfl rfl)
theorem dJ26_next_54 : decode cJ26_next 54 = .ok (.putfield 25, 3) := dk_181 0 25 (dk_at dksJ26_next_2 8 rfl rfl)
theorem dJ26_next_57 : decode cJ26_next 57 = .ok (.aload_n 2, 1) := dk_44 (dk_at dksJ26_next_2 11 rfl rfl)
theorem dJ26_next_58 : decode cJ26_next 58 = .ok (.aload_n 0, 1) := dk_42 (dk_at dksJ26_next_2 12 rfl rfl)
theorem dJ26_next_59 : decode cJ26_next 59 = .ok (.iload_n 1, 1) := dk_27 (dk_at dksJ26_next_2 13 rfl rfl)
theorem dJ26_next_60 : decode cJ26_next 60 = .ok (.dup_x1, 1) := dk_90 (dk_at dksJ26_next_2 14 rfl rfl)
theorem dJ26_next_61 : decode cJ26_next 61 = .ok (.putfield 13, 3) := dk_181 0 13 (dk_at dksJ26_next_2 15 rfl rfl)
theorem dJ26_next_64 : decode cJ26_next 64 = .ok (.aaload, 1) := dk_50 (dk_at dksJ26_next_2 18 rfl rfl)
theorem dJ26_next_65 : decode cJ26_next 65 = .ok (.areturn, 1) := dk_176 (dk_at dksJ26_next_2 19 rfl rfl)
abbrev cJ26_checkForComodification : ByteArray := prog_63_method_6_code
def yJ26_checkForComodification : MethodName := ⟨RJ26, "checkForComodification", "()V"⟩
def dkwJ26_checkForComodification_0 : List UInt8 := [42, 180, 0, 1, 180, 0, 17, 42, 180, 0, 22, 159, 0, 11, 187, 0, 41, 89, 183, 0, 43, 191, 177]
abbrev dktJ26_checkForComodification_0 : List UInt8 := dkwJ26_checkForComodification_0 ++ []
theorem dksJ26_checkForComodification_0 : cJ26_checkForComodification.data.toList.drop 0 = dktJ26_checkForComodification_0 := by decide +kernel
theorem dJ26_checkForComodification_0 : decode cJ26_checkForComodification 0 = .ok (.aload_n 0, 1) := dk_42 (dk_at dksJ26_checkForComodification_0 0 rfl rfl)
theorem dJ26_checkForComodification_1 : decode cJ26_checkForComodification 1 = .ok (.getfield 1, 3) := dk_180 0 1 (dk_at dksJ26_checkForComodification_0 1 rfl rfl)
theorem dJ26_checkForComodification_4 : decode cJ26_checkForComodification 4 = .ok (.getfield 17, 3) := dk_180 0 17 (dk_at dksJ26_checkForComodification_0 4 rfl rfl)
theorem dJ26_checkForComodification_7 : decode cJ26_checkForComodification 7 = .ok (.aload_n 0, 1) := dk_42 (dk_at dksJ26_checkForComodification_0 7 rfl rfl)
theorem dJ26_checkForComodification_8 : decode cJ26_checkForComodification 8 = .ok (.getfield 22, 3) := dk_180 0 22 (dk_at dksJ26_checkForComodification_0 8 rfl rfl)
theorem dJ26_checkForComodification_11 : decode cJ26_checkForComodification 11 = .ok (.if_icmp .eq 11, 3) := dk_159 0 11 (dk_at dksJ26_checkForComodification_0 11 rfl rfl)
theorem dJ26_checkForComodification_14 : decode cJ26_checkForComodification 14 = .ok (.new 41, 3) := dk_187 0 41 (dk_at dksJ26_checkForComodification_0 14 rfl rfl)
theorem dJ26_checkForComodification_17 : decode cJ26_checkForComodification 17 = .ok (.dup, 1) := dk_89 (dk_at dksJ26_checkForComodification_0 17 rfl rfl)
theorem dJ26_checkForComodification_18 : decode cJ26_checkForComodification 18 = .ok (.invokespecial 43, 3) := dk_183 0 43 (dk_at dksJ26_checkForComodification_0 18 rfl rfl)
theorem dJ26_checkForComodification_21 : decode cJ26_checkForComodification 21 = .ok (.athrow, 1) := dk_191 (dk_at dksJ26_checkForComodification_0 21 rfl rfl)
theorem dJ26_checkForComodification_22 : decode cJ26_checkForComodification 22 = .ok (.return_, 1) := dk_177 (dk_at dksJ26_checkForComodification_0 22 rfl rfl)
abbrev cJ26_remove : ByteArray := prog_63_method_4_code
def yJ26_remove : MethodName := ⟨RJ26, "remove", "()V"⟩
def dkwJ26_remove_2 : List UInt8 := [180, 0, 1, 180, 0, 17, 181, 0, 22, 167, 0, 12, 76, 187, 0, 41, 89, 183, 0, 43, 191, 177]
abbrev dktJ26_remove_2 : List UInt8 := dkwJ26_remove_2 ++ []
def dkwJ26_remove_1 : List UInt8 := [180, 0, 13, 182, 0, 47, 87, 42, 42, 180, 0, 13, 181, 0, 25, 42, 2, 181, 0, 13, 42, 42]
abbrev dktJ26_remove_1 : List UInt8 := dkwJ26_remove_1 ++ dktJ26_remove_2
def dkwJ26_remove_0 : List UInt8 := [42, 180, 0, 13, 156, 0, 11, 187, 0, 44, 89, 183, 0, 46, 191, 42, 182, 0, 31, 42, 180, 0, 1, 42]
abbrev dktJ26_remove_0 : List UInt8 := dkwJ26_remove_0 ++ dktJ26_remove_1
theorem dksJ26_remove_0 : cJ26_remove.data.toList.drop 0 = dktJ26_remove_0 := by decide +kernel
theorem dksJ26_remove_1 : cJ26_remove.data.toList.drop 24 = dktJ26_remove_1 := dk_seg dksJ26_remove_0 24 rfl rfl
theorem dksJ26_remove_2 : cJ26_remove.data.toList.drop 46 = dktJ26_remove_2 := dk_seg dksJ26_remove_1 22 rfl rfl
theorem dJ26_remove_0 : decode cJ26_remove 0 = .ok (.aload_n 0, 1) := dk_42 (dk_at dksJ26_remove_0 0 rfl rfl)
theorem dJ26_remove_1 : decode cJ26_remove 1 = .ok (.getfield 13, 3) := dk_180 0 13 (dk_at dksJ26_remove_0 1 rfl rfl)
theorem dJ26_remove_4 : decode cJ26_remove 4 = .ok (.ifCond .ge 11, 3) := dk_156 0 11 (dk_at dksJ26_remove_0 4 rfl rfl)
theorem dJ26_remove_7 : decode cJ26_remove 7 = .ok (.new 44, 3) := dk_187 0 44 (dk_at dksJ26_remove_0 7 rfl rfl)
theorem dJ26_remove_10 : decode cJ26_remove 10 = .ok (.dup, 1) := dk_89 (dk_at dksJ26_remove_0 10 rfl rfl)
theorem dJ26_remove_11 : decode cJ26_remove 11 = .ok (.invokespecial 46, 3) := dk_183 0 46 (dk_at dksJ26_remove_0 11 rfl rfl)
theorem dJ26_remove_14 : decode cJ26_remove 14 = .ok (.athrow, 1) := dk_191 (dk_at dksJ26_remove_0 14 rfl rfl)
theorem dJ26_remove_15 : decode cJ26_remove 15 = .ok (.aload_n 0, 1) := dk_42 (dk_at dksJ26_remove_0 15 rfl rfl)
theorem dJ26_remove_16 : decode cJ26_remove 16 = .ok (.invokevirtual 31, 3) := dk_182 0 31 (dk_at dksJ26_remove_0 16 rfl rfl)
theorem dJ26_remove_19 : decode cJ26_remove 19 = .ok (.aload_n 0, 1) := dk_42 (dk_at dksJ26_remove_0 19 rfl rfl)
theorem dJ26_remove_20 : decode cJ26_remove 20 = .ok (.getfield 1, 3) := dk_180 0 1 (dk_at dksJ26_remove_0 20 rfl rfl)
theorem dJ26_remove_23 : decode cJ26_remove 23 = .ok (.aload_n 0, 1) := dk_42 (dk_at dksJ26_remove_0 23 rfl rfl)
theorem dJ26_remove_24 : decode cJ26_remove 24 = .ok (.getfield 13, 3) := dk_180 0 13 (dk_at dksJ26_remove_1 0 rfl rfl)
theorem dJ26_remove_27 : decode cJ26_remove 27 = .ok (.invokevirtual 47, 3) := dk_182 0 47 (dk_at dksJ26_remove_1 3 rfl rfl)
theorem dJ26_remove_30 : decode cJ26_remove 30 = .ok (.pop, 1) := dk_87 (dk_at dksJ26_remove_1 6 rfl rfl)
theorem dJ26_remove_31 : decode cJ26_remove 31 = .ok (.aload_n 0, 1) := dk_42 (dk_at dksJ26_remove_1 7 rfl rfl)
theorem dJ26_remove_32 : decode cJ26_remove 32 = .ok (.aload_n 0, 1) := dk_42 (dk_at dksJ26_remove_1 8 rfl rfl)
theorem dJ26_remove_33 : decode cJ26_remove 33 = .ok (.getfield 13, 3) := dk_180 0 13 (dk_at dksJ26_remove_1 9 rfl rfl)
theorem dJ26_remove_36 : decode cJ26_remove 36 = .ok (.putfield 25, 3) := dk_181 0 25 (dk_at dksJ26_remove_1 12 rfl rfl)
theorem dJ26_remove_39 : decode cJ26_remove 39 = .ok (.aload_n 0, 1) := dk_42 (dk_at dksJ26_remove_1 15 rfl rfl)
theorem dJ26_remove_40 : decode cJ26_remove 40 = .ok (.iconst (-1), 1) := dk_2 (dk_at dksJ26_remove_1 16 rfl rfl)
theorem dJ26_remove_41 : decode cJ26_remove 41 = .ok (.putfield 13, 3) := dk_181 0 13 (dk_at dksJ26_remove_1 17 rfl rfl)
theorem dJ26_remove_44 : decode cJ26_remove 44 = .ok (.aload_n 0, 1) := dk_42 (dk_at dksJ26_remove_1 20 rfl rfl)
theorem dJ26_remove_45 : decode cJ26_remove 45 = .ok (.aload_n 0, 1) := dk_42 (dk_at dksJ26_remove_1 21 rfl rfl)
theorem dJ26_remove_46 : decode cJ26_remove 46 = .ok (.getfield 1, 3) := dk_180 0 1 (dk_at dksJ26_remove_2 0 rfl rfl)
theorem dJ26_remove_49 : decode cJ26_remove 49 = .ok (.getfield 17, 3) := dk_180 0 17 (dk_at dksJ26_remove_2 3 rfl rfl)
theorem dJ26_remove_52 : decode cJ26_remove 52 = .ok (.putfield 22, 3) := dk_181 0 22 (dk_at dksJ26_remove_2 6 rfl rfl)
theorem dJ26_remove_55 : decode cJ26_remove 55 = .ok (.goto 12, 3) := dk_167 0 12 (dk_at dksJ26_remove_2 9 rfl rfl)
theorem dJ26_remove_58 : decode cJ26_remove 58 = .ok (.astore_n 1, 1) := dk_76 (dk_at dksJ26_remove_2 12 rfl rfl)
theorem dJ26_remove_59 : decode cJ26_remove 59 = .ok (.new 41, 3) := dk_187 0 41 (dk_at dksJ26_remove_2 13 rfl rfl)
theorem dJ26_remove_62 : decode cJ26_remove 62 = .ok (.dup, 1) := dk_89 (dk_at dksJ26_remove_2 16 rfl rfl)
theorem dJ26_remove_63 : decode cJ26_remove 63 = .ok (.invokespecial 43, 3) := dk_183 0 43 (dk_at dksJ26_remove_2 17 rfl rfl)
theorem dJ26_remove_66 : decode cJ26_remove 66 = .ok (.athrow, 1) := dk_191 (dk_at dksJ26_remove_2 20 rfl rfl)
theorem dJ26_remove_67 : decode cJ26_remove 67 = .ok (.return_, 1) := dk_177 (dk_at dksJ26_remove_2 21 rfl rfl)
theorem q135 : (Jvm.Cond.initialized "java/util/ArrayList$Itr") ∈ lw_all := lw_g (lw_at lw_m1 39 rfl) rfl
theorem q192 : (Jvm.Cond.fieldLink "java/util/ArrayList$Itr" (37 : Nat) "java/util/ArrayList" "elementData" "[Ljava/lang/Object;") ∈ lw_all := lw_g (lw_at lw_m1 96 rfl) rfl
theorem q193 : (Jvm.Cond.fieldLinkNest "java/util/ArrayList$Itr" (28 : Nat) "java/util/ArrayList" "size" "I" "java/util/ArrayList") ∈ lw_tbl := lw_at lw_m1 97 rfl
theorem q198 : (Jvm.Cond.fieldLink "java/util/ArrayList$Itr" (17 : Nat) "java/util/ArrayList" "modCount" "I") ∈ lw_all := lw_g (lw_at lw_m1 102 rfl) rfl
theorem q1094 : (Jvm.Cond.selects "java/util/ArrayList$Itr" ({ cls := "java/lang/Object", name := "getClass", desc := "()Ljava/lang/Class;" } : Jvm.MethodName) ({ cls := "java/lang/Object", name := "getClass", desc := "()Ljava/lang/Class;" } : Jvm.MethodName)) ∈ lw_all := lw_g (lw_at lw_m5 38 rfl) rfl
theorem q1297 : (Jvm.Cond.instantiable "java/util/ArrayList$Itr" (4 : Nat)) ∈ lw_all := lw_g (lw_at lw_m6 1 rfl) rfl
theorem q1299 : (Jvm.Cond.instanceMethod ({ cls := "java/util/ArrayList$Itr", name := "<init>", desc := "(Ljava/util/ArrayList;)V" } : Jvm.MethodName)) ∈ lw_all := lw_g (lw_at lw_m6 3 rfl) rfl
theorem q1300 : (Jvm.Cond.code ({ cls := "java/util/ArrayList$Itr", name := "<init>", desc := "(Ljava/util/ArrayList;)V" } : Jvm.MethodName) prog_63_method_1_code (2 : Nat) (Option.none : Option Jvm.ClassFile.FieldType)) ∈ lw_all := lw_g (lw_at lw_m6 4 rfl) rfl
theorem q1301 : (Jvm.Cond.methodLink "java/util/ArrayList$Itr" (7 : Nat) ({ cls := "java/lang/Object", name := "<init>", desc := "()V" } : Jvm.MethodName)) ∈ lw_all := lw_g (lw_at lw_m6 5 rfl) rfl
theorem q1304 : (Jvm.Cond.fieldLink "java/util/ArrayList$Itr" (25 : Nat) "java/util/ArrayList$Itr" "cursor" "I") ∈ lw_all := lw_g (lw_at lw_m6 8 rfl) rfl
theorem q1305 : (Jvm.Cond.fieldLink "java/util/ArrayList$Itr" (13 : Nat) "java/util/ArrayList$Itr" "lastRet" "I") ∈ lw_all := lw_g (lw_at lw_m6 9 rfl) rfl
theorem q1306 : (Jvm.Cond.fieldLink "java/util/ArrayList$Itr" (22 : Nat) "java/util/ArrayList$Itr" "expectedModCount" "I") ∈ lw_all := lw_g (lw_at lw_m6 10 rfl) rfl
theorem q1307 : (Jvm.Cond.fieldLink "java/util/ArrayList$Itr" (1 : Nat) "java/util/ArrayList$Itr" "this$0" "Ljava/util/ArrayList;") ∈ lw_all := lw_g (lw_at lw_m6 11 rfl) rfl
theorem q1308 : (Jvm.Cond.lays "java/util/ArrayList$Itr" "java/util/ArrayList$Itr" "cursor" "I") ∈ lw_all := lw_g (lw_at lw_m6 12 rfl) rfl
theorem q1309 : (Jvm.Cond.soleField "java/util/ArrayList$Itr" "cursor") ∈ lw_all := lw_g (lw_at lw_m6 13 rfl) rfl
theorem q1310 : (Jvm.Cond.lays "java/util/ArrayList$Itr" "java/util/ArrayList$Itr" "lastRet" "I") ∈ lw_all := lw_g (lw_at lw_m6 14 rfl) rfl
theorem q1311 : (Jvm.Cond.soleField "java/util/ArrayList$Itr" "lastRet") ∈ lw_all := lw_g (lw_at lw_m6 15 rfl) rfl
theorem q1312 : (Jvm.Cond.lays "java/util/ArrayList$Itr" "java/util/ArrayList$Itr" "expectedModCount" "I") ∈ lw_all := lw_g (lw_at lw_m6 16 rfl) rfl
theorem q1313 : (Jvm.Cond.soleField "java/util/ArrayList$Itr" "expectedModCount") ∈ lw_all := lw_g (lw_at lw_m6 17 rfl) rfl
theorem q1314 : (Jvm.Cond.laysFinal "java/util/ArrayList$Itr" "java/util/ArrayList$Itr" "this$0" "Ljava/util/ArrayList;") ∈ lw_all := lw_g (lw_at lw_m6 18 rfl) rfl
theorem q1315 : (Jvm.Cond.soleField "java/util/ArrayList$Itr" "this$0") ∈ lw_all := lw_g (lw_at lw_m6 19 rfl) rfl
theorem q1316 : (Jvm.Cond.superclass "java/util/ArrayList$Itr" "java/lang/Object") ∈ lw_all := lw_g (lw_at lw_m6 20 rfl) rfl
theorem q1338 : (Jvm.Cond.castable "java/util/ArrayList$Itr" "java/util/Iterator") ∈ lw_tbl := lw_at lw_m6 42 rfl
theorem q1339 : (Jvm.Cond.selects "java/util/ArrayList$Itr" ({ cls := "java/util/Iterator", name := "hasNext", desc := "()Z" } : Jvm.MethodName) ({ cls := "java/util/ArrayList$Itr", name := "hasNext", desc := "()Z" } : Jvm.MethodName)) ∈ lw_all := lw_g (lw_at lw_m6 43 rfl) rfl
theorem q1340 : (Jvm.Cond.unhidden "java/util/ArrayList$Itr" "hasNext" "()Z") ∈ lw_tbl := lw_at lw_m6 44 rfl
theorem q1341 : (Jvm.Cond.instanceMethod ({ cls := "java/util/ArrayList$Itr", name := "hasNext", desc := "()Z" } : Jvm.MethodName)) ∈ lw_all := lw_g (lw_at lw_m6 45 rfl) rfl
theorem q1342 : (Jvm.Cond.publicMethod ({ cls := "java/util/ArrayList$Itr", name := "hasNext", desc := "()Z" } : Jvm.MethodName)) ∈ lw_tbl := lw_at lw_m6 46 rfl
theorem q1343 : (Jvm.Cond.code ({ cls := "java/util/ArrayList$Itr", name := "hasNext", desc := "()Z" } : Jvm.MethodName) prog_63_method_2_code (1 : Nat) (Option.some Jvm.ClassFile.FieldType.boolean)) ∈ lw_all := lw_g (lw_at lw_m6 47 rfl) rfl
theorem q1472 : (Jvm.Cond.selects "java/util/ArrayList$Itr" ({ cls := "java/util/Iterator", name := "next", desc := "()Ljava/lang/Object;" } : Jvm.MethodName) ({ cls := "java/util/ArrayList$Itr", name := "next", desc := "()Ljava/lang/Object;" } : Jvm.MethodName)) ∈ lw_all := lw_g (lw_at lw_m6 176 rfl) rfl
theorem q1473 : (Jvm.Cond.unhidden "java/util/ArrayList$Itr" "next" "()Ljava/lang/Object;") ∈ lw_tbl := lw_at lw_m6 177 rfl
theorem q1474 : (Jvm.Cond.instanceMethod ({ cls := "java/util/ArrayList$Itr", name := "next", desc := "()Ljava/lang/Object;" } : Jvm.MethodName)) ∈ lw_all := lw_g (lw_at lw_m6 178 rfl) rfl
theorem q1475 : (Jvm.Cond.publicMethod ({ cls := "java/util/ArrayList$Itr", name := "next", desc := "()Ljava/lang/Object;" } : Jvm.MethodName)) ∈ lw_tbl := lw_at lw_m6 179 rfl
theorem q1476 : (Jvm.Cond.code ({ cls := "java/util/ArrayList$Itr", name := "next", desc := "()Ljava/lang/Object;" } : Jvm.MethodName) prog_63_method_3_code (3 : Nat) (Option.some (Jvm.ClassFile.FieldType.object "java/lang/Object"))) ∈ lw_all := lw_g (lw_at lw_m6 180 rfl) rfl
theorem q1477 : (Jvm.Cond.methodLink "java/util/ArrayList$Itr" (31 : Nat) ({ cls := "java/util/ArrayList$Itr", name := "checkForComodification", desc := "()V" } : Jvm.MethodName)) ∈ lw_all := lw_g (lw_at lw_m6 181 rfl) rfl
theorem q1478 : (Jvm.Cond.instanceMethod ({ cls := "java/util/ArrayList$Itr", name := "checkForComodification", desc := "()V" } : Jvm.MethodName)) ∈ lw_all := lw_g (lw_at lw_m6 182 rfl) rfl
theorem q1479 : (Jvm.Cond.selects "java/util/ArrayList$Itr" ({ cls := "java/util/ArrayList$Itr", name := "checkForComodification", desc := "()V" } : Jvm.MethodName) ({ cls := "java/util/ArrayList$Itr", name := "checkForComodification", desc := "()V" } : Jvm.MethodName)) ∈ lw_all := lw_g (lw_at lw_m6 183 rfl) rfl
theorem q1480 : (Jvm.Cond.sameMethod "java/util/ArrayList$Itr" "java/util/ArrayList$Itr" "checkForComodification" "()V") ∈ lw_all := lw_g (lw_at lw_m6 184 rfl) rfl
theorem q1482 : (Jvm.Cond.code ({ cls := "java/util/ArrayList$Itr", name := "checkForComodification", desc := "()V" } : Jvm.MethodName) prog_63_method_6_code (1 : Nat) (Option.none : Option Jvm.ClassFile.FieldType)) ∈ lw_all := lw_g (lw_at lw_m6 186 rfl) rfl
theorem q2127 : (Jvm.Cond.selects "java/util/ArrayList$Itr" ({ cls := "java/util/Iterator", name := "remove", desc := "()V" } : Jvm.MethodName) ({ cls := "java/util/ArrayList$Itr", name := "remove", desc := "()V" } : Jvm.MethodName)) ∈ lw_all := lw_g (lw_at lw_m9 111 rfl) rfl
theorem q2128 : (Jvm.Cond.unhidden "java/util/ArrayList$Itr" "remove" "()V") ∈ lw_tbl := lw_at lw_m9 112 rfl
theorem q2129 : (Jvm.Cond.instanceMethod ({ cls := "java/util/ArrayList$Itr", name := "remove", desc := "()V" } : Jvm.MethodName)) ∈ lw_all := lw_g (lw_at lw_m9 113 rfl) rfl
theorem q2130 : (Jvm.Cond.publicMethod ({ cls := "java/util/ArrayList$Itr", name := "remove", desc := "()V" } : Jvm.MethodName)) ∈ lw_tbl := lw_at lw_m9 114 rfl
theorem q2131 : (Jvm.Cond.codeWith ({ cls := "java/util/ArrayList$Itr", name := "remove", desc := "()V" } : Jvm.MethodName) prog_63_method_4_code (2 : Nat) (Option.none : Option Jvm.ClassFile.FieldType) [((19 : Nat), (55 : Nat), (58 : Nat), (51 : Nat))]) ∈ lw_all := lw_g (lw_at lw_m9 115 rfl) rfl
theorem q2132 : (Jvm.Cond.classLink "java/util/ArrayList$Itr" (44 : Nat) "java/lang/IllegalStateException") ∈ lw_all := lw_g (lw_at lw_m9 116 rfl) rfl
theorem q2133 : (Jvm.Cond.methodLink "java/util/ArrayList$Itr" (46 : Nat) ({ cls := "java/lang/IllegalStateException", name := "<init>", desc := "()V" } : Jvm.MethodName)) ∈ lw_all := lw_g (lw_at lw_m9 117 rfl) rfl
theorem q2134 : (Jvm.Cond.methodLink "java/util/ArrayList$Itr" (47 : Nat) ({ cls := "java/util/ArrayList", name := "remove", desc := "(I)Ljava/lang/Object;" } : Jvm.MethodName)) ∈ lw_all := lw_g (lw_at lw_m9 118 rfl) rfl
theorem q2135 : (Jvm.Cond.classLink "java/util/ArrayList$Itr" (41 : Nat) "java/util/ConcurrentModificationException") ∈ lw_all := lw_g (lw_at lw_m9 119 rfl) rfl
theorem q2136 : (Jvm.Cond.methodLink "java/util/ArrayList$Itr" (43 : Nat) ({ cls := "java/util/ConcurrentModificationException", name := "<init>", desc := "()V" } : Jvm.MethodName)) ∈ lw_all := lw_g (lw_at lw_m9 120 rfl) rfl
theorem q3332 : (Jvm.Cond.castable "java/util/ArrayList$Itr" "java/lang/Object") ∈ lw_tbl := lw_at lw_m14 116 rfl
theorem in_J26 : ∀ w ∈ wsJ260, w ∈ lw_all := lw_in wsJ260 [1308, 1310, 1312, 1314] (by decide +kernel) (by decide +kernel)
/-! java/util/ArrayDeque -/
def RJ28 : String := "java/util/ArrayDeque"
def TJ28 : u_T := fun k => match k with
  | 0 => ("java/util/ArrayDeque", "elements", "[Ljava/lang/Object;", false)
  | 1 => ("java/util/ArrayDeque", "head", "I", false)
  | _ => ("java/util/ArrayDeque", "tail", "I", false)
def tyJ28 : Nat → FieldType := fun k => match k with
  | 0 => .array (.object "java/lang/Object")
  | 1 => .int
  | _ => .int
abbrev wsJ280 : List Cond := u_ws RJ28 TJ28 3
theorem nmJ28 : ∀ a, a < 3 → ∀ b, b < 3 → a ≠ b → (TJ28 a).2.1 ≠ (TJ28 b).2.1 := by decide +kernel
theorem tyJ28_ok : ∀ k, k < 3 → parseFieldDescriptor (TJ28 k).2.2.1 = some (tyJ28 k) := by decide +kernel
abbrev cJ28_isEmpty : ByteArray := prog_60_method_38_code
def yJ28_isEmpty : MethodName := ⟨RJ28, "isEmpty", "()Z"⟩
def dkwJ28_isEmpty_0 : List UInt8 := [42, 180, 0, 24, 42, 180, 0, 20, 160, 0, 7, 4, 167, 0, 4, 3, 172]
abbrev dktJ28_isEmpty_0 : List UInt8 := dkwJ28_isEmpty_0 ++ []
theorem dksJ28_isEmpty_0 : cJ28_isEmpty.data.toList.drop 0 = dktJ28_isEmpty_0 := by decide +kernel
theorem dJ28_isEmpty_0 : decode cJ28_isEmpty 0 = .ok (.aload_n 0, 1) := dk_42 (dk_at dksJ28_isEmpty_0 0 rfl rfl)
theorem dJ28_isEmpty_1 : decode cJ28_isEmpty 1 = .ok (.getfield 24, 3) := dk_180 0 24 (dk_at dksJ28_isEmpty_0 1 rfl rfl)
theorem dJ28_isEmpty_4 : decode cJ28_isEmpty 4 = .ok (.aload_n 0, 1) := dk_42 (dk_at dksJ28_isEmpty_0 4 rfl rfl)
theorem dJ28_isEmpty_5 : decode cJ28_isEmpty 5 = .ok (.getfield 20, 3) := dk_180 0 20 (dk_at dksJ28_isEmpty_0 5 rfl rfl)
theorem dJ28_isEmpty_8 : decode cJ28_isEmpty 8 = .ok (.if_icmp .ne 7, 3) := dk_160 0 7 (dk_at dksJ28_isEmpty_0 8 rfl rfl)
theorem dJ28_isEmpty_11 : decode cJ28_isEmpty 11 = .ok (.iconst 1, 1) := dk_4 (dk_at dksJ28_isEmpty_0 11 rfl rfl)
theorem dJ28_isEmpty_12 : decode cJ28_isEmpty 12 = .ok (.goto 4, 3) := dk_167 0 4 (dk_at dksJ28_isEmpty_0 12 rfl rfl)
theorem dJ28_isEmpty_15 : decode cJ28_isEmpty 15 = .ok (.iconst 0, 1) := dk_3 (dk_at dksJ28_isEmpty_0 15 rfl rfl)
theorem dJ28_isEmpty_16 : decode cJ28_isEmpty 16 = .ok (.ireturn, 1) := dk_172 (dk_at dksJ28_isEmpty_0 16 rfl rfl)
abbrev cJ28_nonNullElementAt : ByteArray := prog_60_method_11_code
def yJ28_nonNullElementAt : MethodName := ⟨RJ28, "nonNullElementAt", "([Ljava/lang/Object;I)Ljava/lang/Object;"⟩
def dkwJ28_nonNullElementAt_0 : List UInt8 := [42, 27, 50, 77, 44, 199, 0, 11, 187, 0, 62, 89, 183, 0, 64, 191, 44, 176]
abbrev dktJ28_nonNullElementAt_0 : List UInt8 := dkwJ28_nonNullElementAt_0 ++ []
theorem dksJ28_nonNullElementAt_0 : cJ28_nonNullElementAt.data.toList.drop 0 = dktJ28_nonNullElementAt_0 := by decide +kernel
theorem dJ28_nonNullElementAt_0 : decode cJ28_nonNullElementAt 0 = .ok (.aload_n 0, 1) := dk_42 (dk_at dksJ28_nonNullElementAt_0 0 rfl rfl)
theorem dJ28_nonNullElementAt_1 : decode cJ28_nonNullElementAt 1 = .ok (.iload_n 1, 1) := dk_27 (dk_at dksJ28_nonNullElementAt_0 1 rfl rfl)
theorem dJ28_nonNullElementAt_2 : decode cJ28_nonNullElementAt 2 = .ok (.aaload, 1) := dk_50 (dk_at dksJ28_nonNullElementAt_0 2 rfl rfl)
theorem dJ28_nonNullElementAt_3 : decode cJ28_nonNullElementAt 3 = .ok (.astore_n 2, 1) := dk_77 (dk_at dksJ28_nonNullElementAt_0 3 rfl rfl)
theorem dJ28_nonNullElementAt_4 : decode cJ28_nonNullElementAt 4 = .ok (.aload_n 2, 1) := dk_44 (dk_at dksJ28_nonNullElementAt_0 4 rfl rfl)
theorem dJ28_nonNullElementAt_5 : decode cJ28_nonNullElementAt 5 = .ok (.ifnonnull 11, 3) := dk_199 0 11 (dk_at dksJ28_nonNullElementAt_0 5 rfl rfl)
theorem dJ28_nonNullElementAt_8 : decode cJ28_nonNullElementAt 8 = .ok (.new 62, 3) := dk_187 0 62 (dk_at dksJ28_nonNullElementAt_0 8 rfl rfl)
theorem dJ28_nonNullElementAt_11 : decode cJ28_nonNullElementAt 11 = .ok (.dup, 1) := dk_89 (dk_at dksJ28_nonNullElementAt_0 11 rfl rfl)
theorem dJ28_nonNullElementAt_12 : decode cJ28_nonNullElementAt 12 = .ok (.invokespecial 64, 3) := dk_183 0 64 (dk_at dksJ28_nonNullElementAt_0 12 rfl rfl)
theorem dJ28_nonNullElementAt_15 : decode cJ28_nonNullElementAt 15 = .ok (.athrow, 1) := dk_191 (dk_at dksJ28_nonNullElementAt_0 15 rfl rfl)
theorem dJ28_nonNullElementAt_16 : decode cJ28_nonNullElementAt 16 = .ok (.aload_n 2, 1) := dk_44 (dk_at dksJ28_nonNullElementAt_0 16 rfl rfl)
theorem dJ28_nonNullElementAt_17 : decode cJ28_nonNullElementAt 17 = .ok (.areturn, 1) := dk_176 (dk_at dksJ28_nonNullElementAt_0 17 rfl rfl)
abbrev cJ28_inc : ByteArray := prog_60_method_6_code
def yJ28_inc : MethodName := ⟨RJ28, "inc", "(II)I"⟩
def dkwJ28_inc_0 : List UInt8 := [132, 0, 1, 26, 27, 161, 0, 5, 3, 59, 26, 172]
abbrev dktJ28_inc_0 : List UInt8 := dkwJ28_inc_0 ++ []
theorem dksJ28_inc_0 : cJ28_inc.data.toList.drop 0 = dktJ28_inc_0 := by decide +kernel
theorem dJ28_inc_0 : decode cJ28_inc 0 = .ok (.iinc 0 1, 3) := dk_132 0 1 (dk_at dksJ28_inc_0 0 rfl rfl)
theorem dJ28_inc_3 : decode cJ28_inc 3 = .ok (.iload_n 0, 1) := dk_26 (dk_at dksJ28_inc_0 3 rfl rfl)
theorem dJ28_inc_4 : decode cJ28_inc 4 = .ok (.iload_n 1, 1) := dk_27 (dk_at dksJ28_inc_0 4 rfl rfl)
theorem dJ28_inc_5 : decode cJ28_inc 5 = .ok (.if_icmp .lt 5, 3) := dk_161 0 5 (dk_at dksJ28_inc_0 5 rfl rfl)
theorem dJ28_inc_8 : decode cJ28_inc 8 = .ok (.iconst 0, 1) := dk_3 (dk_at dksJ28_inc_0 8 rfl rfl)
theorem dJ28_inc_9 : decode cJ28_inc 9 = .ok (.istore_n 0, 1) := dk_59 (dk_at dksJ28_inc_0 9 rfl rfl)
theorem dJ28_inc_10 : decode cJ28_inc 10 = .ok (.iload_n 0, 1) := dk_26 (dk_at dksJ28_inc_0 10 rfl rfl)
theorem dJ28_inc_11 : decode cJ28_inc 11 = .ok (.ireturn, 1) := dk_172 (dk_at dksJ28_inc_0 11 rfl rfl)
abbrev cJ28_poll : ByteArray := prog_60_method_31_code
def yJ28_poll : MethodName := ⟨RJ28, "poll", "()Ljava/lang/Object;"⟩
theorem dJ28_poll_0 : decode cJ28_poll 0 = .ok (.aload_n 0, 1) := by decide +kernel
theorem dJ28_poll_1 : decode cJ28_poll 1 = .ok (.invokevirtual 93, 3) := by decide +kernel
theorem dJ28_poll_4 : decode cJ28_poll 4 = .ok (.areturn, 1) := by decide +kernel
abbrev cJ28_pollFirst : ByteArray := prog_60_method_20_code
def yJ28_pollFirst : MethodName := ⟨RJ28, "pollFirst", "()Ljava/lang/Object;"⟩
def dkwJ28_pollFirst_1 : List UInt8 := [42, 28, 43, 190, 184, 0, 74, 181, 0, 24, 45, 176]
abbrev dktJ28_pollFirst_1 : List UInt8 := dkwJ28_pollFirst_1 ++ []
def dkwJ28_pollFirst_0 : List UInt8 := [42, 180, 0, 3, 89, 76, 42, 180, 0, 24, 89, 61, 184, 0, 103, 78, 45, 198, 0, 17, 43, 28, 1, 83]
abbrev dktJ28_pollFirst_0 : List UInt8 := dkwJ28_pollFirst_0 ++ dktJ28_pollFirst_1
theorem dksJ28_pollFirst_0 : cJ28_pollFirst.data.toList.drop 0 = dktJ28_pollFirst_0 := by decide +kernel
theorem dksJ28_pollFirst_1 : cJ28_pollFirst.data.toList.drop 24 = dktJ28_pollFirst_1 := dk_seg dksJ28_pollFirst_0 24 rfl rfl
theorem dJ28_pollFirst_0 : decode cJ28_pollFirst 0 = .ok (.aload_n 0, 1) := dk_42 (dk_at dksJ28_pollFirst_0 0 rfl rfl)
theorem dJ28_pollFirst_1 : decode cJ28_pollFirst 1 = .ok (.getfield 3, 3) := dk_180 0 3 (dk_at dksJ28_pollFirst_0 1 rfl rfl)
theorem dJ28_pollFirst_4 : decode cJ28_pollFirst 4 = .ok (.dup, 1) := dk_89 (dk_at dksJ28_pollFirst_0 4 rfl rfl)
theorem dJ28_pollFirst_5 : decode cJ28_pollFirst 5 = .ok (.astore_n 1, 1) := dk_76 (dk_at dksJ28_pollFirst_0 5 rfl rfl)
theorem dJ28_pollFirst_6 : decode cJ28_pollFirst 6 = .ok (.aload_n 0, 1) := dk_42 (dk_at dksJ28_pollFirst_0 6 rfl rfl)
theorem dJ28_pollFirst_7 : decode cJ28_pollFirst 7 = .ok (.getfield 24, 3) := dk_180 0 24 (dk_at dksJ28_pollFirst_0 7 rfl rfl)
theorem dJ28_pollFirst_10 : decode cJ28_pollFirst 10 = .ok (.dup, 1) := dk_89 (dk_at dksJ28_pollFirst_0 10 rfl rfl)
theorem dJ28_pollFirst_11 : decode cJ28_pollFirst 11 = .ok (.istore_n 2, 1) := dk_61 (dk_at dksJ28_pollFirst_0 11 rfl rfl)
theorem dJ28_pollFirst_12 : decode cJ28_pollFirst 12 = .ok (.invokestatic 103, 3) := dk_184 0 103 (dk_at dksJ28_pollFirst_0 12 rfl rfl)
theorem dJ28_pollFirst_15 : decode cJ28_pollFirst 15 = .ok (.astore_n 3, 1) := dk_78 (dk_at dksJ28_pollFirst_0 15 rfl rfl)
theorem dJ28_pollFirst_16 : decode cJ28_pollFirst 16 = .ok (.aload_n 3, 1) := dk_45 (dk_at dksJ28_pollFirst_0 16 rfl rfl)
theorem dJ28_pollFirst_17 : decode cJ28_pollFirst 17 = .ok (.ifnull 17, 3) := dk_198 0 17 (dk_at dksJ28_pollFirst_0 17 rfl rfl)
theorem dJ28_pollFirst_20 : decode cJ28_pollFirst 20 = .ok (.aload_n 1, 1) := dk_43 (dk_at dksJ28_pollFirst_0 20 rfl rfl)
theorem dJ28_pollFirst_21 : decode cJ28_pollFirst 21 = .ok (.iload_n 2, 1) := dk_28 (dk_at dksJ28_pollFirst_0 21 rfl rfl)
theorem dJ28_pollFirst_22 : decode cJ28_pollFirst 22 = .ok (.aconst_null, 1) := dk_1 (dk_at dksJ28_pollFirst_0 22 rfl rfl)
theorem dJ28_pollFirst_23 : decode cJ28_pollFirst 23 = .ok (.aastore, 1) := dk_83 (dk_at dksJ28_pollFirst_0 23 rfl rfl)
theorem dJ28_pollFirst_24 : decode cJ28_pollFirst 24 = .ok (.aload_n 0, 1) := dk_42 (dk_at dksJ28_pollFirst_1 0 rfl rfl)
theorem dJ28_pollFirst_25 : decode cJ28_pollFirst 25 = .ok (.iload_n 2, 1) := dk_28 (dk_at dksJ28_pollFirst_1 1 rfl rfl)
theorem dJ28_pollFirst_26 : decode cJ28_pollFirst 26 = .ok (.aload_n 1, 1) := dk_43 (dk_at dksJ28_pollFirst_1 2 rfl rfl)
theorem dJ28_pollFirst_27 : decode cJ28_pollFirst 27 = .ok (.arraylength, 1) := dk_190 (dk_at dksJ28_pollFirst_1 3 rfl rfl)
theorem dJ28_pollFirst_28 : decode cJ28_pollFirst 28 = .ok (.invokestatic 74, 3) := dk_184 0 74 (dk_at dksJ28_pollFirst_1 4 rfl rfl)
theorem dJ28_pollFirst_31 : decode cJ28_pollFirst 31 = .ok (.putfield 24, 3) := dk_181 0 24 (dk_at dksJ28_pollFirst_1 7 rfl rfl)
theorem dJ28_pollFirst_34 : decode cJ28_pollFirst 34 = .ok (.aload_n 3, 1) := dk_45 (dk_at dksJ28_pollFirst_1 10 rfl rfl)
theorem dJ28_pollFirst_35 : decode cJ28_pollFirst 35 = .ok (.areturn, 1) := dk_176 (dk_at dksJ28_pollFirst_1 11 rfl rfl)
abbrev cJ28_elementAt : ByteArray := prog_60_method_10_code
def yJ28_elementAt : MethodName := ⟨RJ28, "elementAt", "([Ljava/lang/Object;I)Ljava/lang/Object;"⟩
def dkwJ28_elementAt_0 : List UInt8 := [42, 27, 50, 176]
abbrev dktJ28_elementAt_0 : List UInt8 := dkwJ28_elementAt_0 ++ []
theorem dksJ28_elementAt_0 : cJ28_elementAt.data.toList.drop 0 = dktJ28_elementAt_0 := by decide +kernel
theorem dJ28_elementAt_0 : decode cJ28_elementAt 0 = .ok (.aload_n 0, 1) := dk_42 (dk_at dksJ28_elementAt_0 0 rfl rfl)
theorem dJ28_elementAt_1 : decode cJ28_elementAt 1 = .ok (.iload_n 1, 1) := dk_27 (dk_at dksJ28_elementAt_0 1 rfl rfl)
theorem dJ28_elementAt_2 : decode cJ28_elementAt 2 = .ok (.aaload, 1) := dk_50 (dk_at dksJ28_elementAt_0 2 rfl rfl)
theorem dJ28_elementAt_3 : decode cJ28_elementAt 3 = .ok (.areturn, 1) := dk_176 (dk_at dksJ28_elementAt_0 3 rfl rfl)
abbrev cJ28_delete : ByteArray := prog_60_method_36_code
def yJ28_delete : MethodName := ⟨RJ28, "delete", "(I)Z"⟩
def dkwJ28_delete_8 : List UInt8 := [4, 172]
abbrev dktJ28_delete_8 : List UInt8 := dkwJ28_delete_8 ++ []
def dkwJ28_delete_7 : List UInt8 := [4, 100, 44, 3, 50, 83, 44, 4, 44, 3, 21, 5, 4, 100, 184, 0, 27, 44, 42, 180, 0, 20, 1, 83]
abbrev dktJ28_delete_7 : List UInt8 := dkwJ28_delete_7 ++ dktJ28_delete_8
def dkwJ28_delete_6 : List UInt8 := [21, 7, 184, 0, 27, 167, 0, 36, 44, 27, 4, 96, 44, 27, 29, 27, 4, 96, 100, 184, 0, 27, 44, 29]
abbrev dktJ28_delete_6 : List UInt8 := dkwJ28_delete_6 ++ dktJ28_delete_7
def dkwJ28_delete_5 : List UInt8 := [21, 5, 29, 184, 0, 68, 181, 0, 20, 27, 42, 180, 0, 20, 163, 0, 17, 44, 27, 4, 96, 44, 27]
abbrev dktJ28_delete_5 : List UInt8 := dkwJ28_delete_5 ++ dktJ28_delete_6
def dkwJ28_delete_4 : List UInt8 := [96, 100, 184, 0, 27, 44, 21, 4, 1, 83, 42, 21, 4, 29, 184, 0, 74, 181, 0, 24, 3, 172, 42]
abbrev dktJ28_delete_4 : List UInt8 := dkwJ28_delete_4 ++ dktJ28_delete_5
def dkwJ28_delete_3 : List UInt8 := [27, 184, 0, 27, 44, 3, 44, 29, 4, 100, 50, 83, 44, 21, 4, 44, 21, 4, 4, 96, 21, 6, 27, 4]
abbrev dktJ28_delete_3 : List UInt8 := dkwJ28_delete_3 ++ dktJ28_delete_4
def dkwJ28_delete_2 : List UInt8 := [27, 163, 0, 19, 44, 21, 4, 44, 21, 4, 4, 96, 21, 6, 184, 0, 27, 167, 0, 36, 44, 3, 44, 4]
abbrev dktJ28_delete_2 : List UInt8 := dkwJ28_delete_2 ++ dktJ28_delete_3
def dkwJ28_delete_1 : List UInt8 := [180, 0, 20, 89, 54, 5, 27, 29, 184, 0, 127, 4, 100, 54, 7, 21, 6, 21, 7, 162, 0, 75, 21, 4]
abbrev dktJ28_delete_1 : List UInt8 := dkwJ28_delete_1 ++ dktJ28_delete_2
def dkwJ28_delete_0 : List UInt8 := [42, 180, 0, 3, 77, 44, 190, 62, 27, 42, 180, 0, 24, 89, 54, 4, 29, 184, 0, 127, 54, 6, 42]
abbrev dktJ28_delete_0 : List UInt8 := dkwJ28_delete_0 ++ dktJ28_delete_1
theorem dksJ28_delete_0 : cJ28_delete.data.toList.drop 0 = dktJ28_delete_0 := by decide +kernel
theorem dksJ28_delete_1 : cJ28_delete.data.toList.drop 23 = dktJ28_delete_1 := dk_seg dksJ28_delete_0 23 rfl rfl
theorem dksJ28_delete_2 : cJ28_delete.data.toList.drop 47 = dktJ28_delete_2 := dk_seg dksJ28_delete_1 24 rfl rfl
theorem dksJ28_delete_3 : cJ28_delete.data.toList.drop 71 = dktJ28_delete_3 := dk_seg dksJ28_delete_2 24 rfl rfl
theorem dksJ28_delete_4 : cJ28_delete.data.toList.drop 95 = dktJ28_delete_4 := dk_seg dksJ28_delete_3 24 rfl rfl
theorem dksJ28_delete_5 : cJ28_delete.data.toList.drop 118 = dktJ28_delete_5 := dk_seg dksJ28_delete_4 23 rfl rfl
theorem dksJ28_delete_6 : cJ28_delete.data.toList.drop 141 = dktJ28_delete_6 := dk_seg dksJ28_delete_5 23 rfl rfl
theorem dksJ28_delete_7 : cJ28_delete.data.toList.drop 165 = dktJ28_delete_7 := dk_seg dksJ28_delete_6 24 rfl rfl
theorem dksJ28_delete_8 : cJ28_delete.data.toList.drop 189 = dktJ28_delete_8 := dk_seg dksJ28_delete_7 24 rfl rfl
theorem dJ28_delete_0 : decode cJ28_delete 0 = .ok (.aload_n 0, 1) := dk_42 (dk_at dksJ28_delete_0 0 rfl rfl)
theorem dJ28_delete_1 : decode cJ28_delete 1 = .ok (.getfield 3, 3) := dk_180 0 3 (dk_at dksJ28_delete_0 1 rfl rfl)
theorem dJ28_delete_4 : decode cJ28_delete 4 = .ok (.astore_n 2, 1) := dk_77 (dk_at dksJ28_delete_0 4 rfl rfl)
theorem dJ28_delete_5 : decode cJ28_delete 5 = .ok (.aload_n 2, 1) := dk_44 (dk_at dksJ28_delete_0 5 rfl rfl)
theorem dJ28_delete_6 : decode cJ28_delete 6 = .ok (.arraylength, 1) := dk_190 (dk_at dksJ28_delete_0 6 rfl rfl)
theorem dJ28_delete_7 : decode cJ28_delete 7 = .ok (.istore_n 3, 1) := dk_62 (dk_at dksJ28_delete_0 7 rfl rfl)
theorem dJ28_delete_8 : decode cJ28_delete 8 = .ok (.iload_n 1, 1) := dk_27 (dk_at dksJ28_delete_0 8 rfl rfl)
theorem dJ28_delete_9 : decode cJ28_delete 9 = .ok (.aload_n 0, 1) := dk_42 (dk_at dksJ28_delete_0 9 rfl rfl)
theorem dJ28_delete_10 : decode cJ28_delete 10 = .ok (.getfield 24, 3) := dk_180 0 24 (dk_at dksJ28_delete_0 10 rfl rfl)
theorem dJ28_delete_13 : decode cJ28_delete 13 = .ok (.dup, 1) := dk_89 (dk_at dksJ28_delete_0 13 rfl rfl)
theorem dJ28_delete_14 : decode cJ28_delete 14 = .ok (.istore 4, 2) := dk_54 4 (dk_at dksJ28_delete_0 14 rfl rfl)
theorem dJ28_delete_16 : decode cJ28_delete 16 = .ok (.iload_n 3, 1) := dk_29 (dk_at dksJ28_delete_0 16 rfl rfl)
theorem dJ28_delete_17 : decode cJ28_delete 17 = .ok (.invokestatic 127, 3) := dk_184 0 127 (dk_at dksJ28_delete_0 17 rfl rfl)
theorem dJ28_delete_20 : decode cJ28_delete 20 = .ok (.istore 6, 2) := dk_54 6 (dk_at dksJ28_delete_0 20 rfl rfl)
theorem dJ28_delete_22 : decode cJ28_delete 22 = .ok (.aload_n 0, 1) := dk_42 (dk_at dksJ28_delete_0 22 rfl rfl)
theorem dJ28_delete_23 : decode cJ28_delete 23 = .ok (.getfield 20, 3) := dk_180 0 20 (dk_at dksJ28_delete_1 0 rfl rfl)
theorem dJ28_delete_26 : decode cJ28_delete 26 = .ok (.dup, 1) := dk_89 (dk_at dksJ28_delete_1 3 rfl rfl)
theorem dJ28_delete_27 : decode cJ28_delete 27 = .ok (.istore 5, 2) := dk_54 5 (dk_at dksJ28_delete_1 4 rfl rfl)
theorem dJ28_delete_29 : decode cJ28_delete 29 = .ok (.iload_n 1, 1) := dk_27 (dk_at dksJ28_delete_1 6 rfl rfl)
theorem dJ28_delete_30 : decode cJ28_delete 30 = .ok (.iload_n 3, 1) := dk_29 (dk_at dksJ28_delete_1 7 rfl rfl)
theorem dJ28_delete_31 : decode cJ28_delete 31 = .ok (.invokestatic 127, 3) := dk_184 0 127 (dk_at dksJ28_delete_1 8 rfl rfl)
theorem dJ28_delete_34 : decode cJ28_delete 34 = .ok (.iconst 1, 1) := dk_4 (dk_at dksJ28_delete_1 11 rfl rfl)
theorem dJ28_delete_35 : decode cJ28_delete 35 = .ok (.isub, 1) := dk_100 (dk_at dksJ28_delete_1 12 rfl rfl)
theorem dJ28_delete_36 : decode cJ28_delete 36 = .ok (.istore 7, 2) := dk_54 7 (dk_at dksJ28_delete_1 13 rfl rfl)
theorem dJ28_delete_38 : decode cJ28_delete 38 = .ok (.iload 6, 2) := dk_21 6 (dk_at dksJ28_delete_1 15 rfl rfl)
theorem dJ28_delete_40 : decode cJ28_delete 40 = .ok (.iload 7, 2) := dk_21 7 (dk_at dksJ28_delete_1 17 rfl rfl)
theorem dJ28_delete_42 : decode cJ28_delete 42 = .ok (.if_icmp .ge 75, 3) := dk_162 0 75 (dk_at dksJ28_delete_1 19 rfl rfl)
theorem dJ28_delete_45 : decode cJ28_delete 45 = .ok (.iload 4, 2) := dk_21 4 (dk_at dksJ28_delete_1 22 rfl rfl)
theorem dJ28_delete_47 : decode cJ28_delete 47 = .ok (.iload_n 1, 1) := dk_27 (dk_at dksJ28_delete_2 0 rfl rfl)
theorem dJ28_delete_48 : decode cJ28_delete 48 = .ok (.if_icmp .gt 19, 3) := dk_163 0 19 (dk_at dksJ28_delete_2 1 rfl rfl)
theorem dJ28_delete_51 : decode cJ28_delete 51 = .ok (.aload_n 2, 1) := dk_44 (dk_at dksJ28_delete_2 4 rfl rfl)
theorem dJ28_delete_52 : decode cJ28_delete 52 = .ok (.iload 4, 2) := dk_21 4 (dk_at dksJ28_delete_2 5 rfl rfl)
theorem dJ28_delete_54 : decode cJ28_delete 54 = .ok (.aload_n 2, 1) := dk_44 (dk_at dksJ28_delete_2 7 rfl rfl)
theorem dJ28_delete_55 : decode cJ28_delete 55 = .ok (.iload 4, 2) := dk_21 4 (dk_at dksJ28_delete_2 8 rfl rfl)
theorem dJ28_delete_57 : decode cJ28_delete 57 = .ok (.iconst 1, 1) := dk_4 (dk_at dksJ28_delete_2 10 rfl rfl)
theorem dJ28_delete_58 : decode cJ28_delete 58 = .ok (.iadd, 1) := dk_96 (dk_at dksJ28_delete_2 11 rfl rfl)
theorem dJ28_delete_59 : decode cJ28_delete 59 = .ok (.iload 6, 2) := dk_21 6 (dk_at dksJ28_delete_2 12 rfl rfl)
theorem dJ28_delete_61 : decode cJ28_delete 61 = .ok (.invokestatic 27, 3) := dk_184 0 27 (dk_at dksJ28_delete_2 14 rfl rfl)
theorem dJ28_delete_64 : decode cJ28_delete 64 = .ok (.goto 36, 3) := dk_167 0 36 (dk_at dksJ28_delete_2 17 rfl rfl)
theorem dJ28_delete_67 : decode cJ28_delete 67 = .ok (.aload_n 2, 1) := dk_44 (dk_at dksJ28_delete_2 20 rfl rfl)
theorem dJ28_delete_68 : decode cJ28_delete 68 = .ok (.iconst 0, 1) := dk_3 (dk_at dksJ28_delete_2 21 rfl rfl)
theorem dJ28_delete_69 : decode cJ28_delete 69 = .ok (.aload_n 2, 1) := dk_44 (dk_at dksJ28_delete_2 22 rfl rfl)
theorem dJ28_delete_70 : decode cJ28_delete 70 = .ok (.iconst 1, 1) := dk_4 (dk_at dksJ28_delete_2 23 rfl rfl)
theorem dJ28_delete_71 : decode cJ28_delete 71 = .ok (.iload_n 1, 1) := dk_27 (dk_at dksJ28_delete_3 0 rfl rfl)
theorem dJ28_delete_72 : decode cJ28_delete 72 = .ok (.invokestatic 27, 3) := dk_184 0 27 (dk_at dksJ28_delete_3 1 rfl rfl)
theorem dJ28_delete_75 : decode cJ28_delete 75 = .ok (.aload_n 2, 1) := dk_44 (dk_at dksJ28_delete_3 4 rfl rfl)
theorem dJ28_delete_76 : decode cJ28_delete 76 = .ok (.iconst 0, 1) := dk_3 (dk_at dksJ28_delete_3 5 rfl rfl)
theorem dJ28_delete_77 : decode cJ28_delete 77 = .ok (.aload_n 2, 1) := dk_44 (dk_at dksJ28_delete_3 6 rfl rfl)
theorem dJ28_delete_78 : decode cJ28_delete 78 = .ok (.iload_n 3, 1) := dk_29 (dk_at dksJ28_delete_3 7 rfl rfl)
theorem dJ28_delete_79 : decode cJ28_delete 79 = .ok (.iconst 1, 1) := dk_4 (dk_at dksJ28_delete_3 8 rfl rfl)
theorem dJ28_delete_80 : decode cJ28_delete 80 = .ok (.isub, 1) := dk_100 (dk_at dksJ28_delete_3 9 rfl rfl)
theorem dJ28_delete_81 : decode cJ28_delete 81 = .ok (.aaload, 1) := dk_50 (dk_at dksJ28_delete_3 10 rfl rfl)
theorem dJ28_delete_82 : decode cJ28_delete 82 = .ok (.aastore, 1) := dk_83 (dk_at dksJ28_delete_3 11 rfl rfl)
theorem dJ28_delete_83 : decode cJ28_delete 83 = .ok (.aload_n 2, 1) := dk_44 (dk_at dksJ28_delete_3 12 rfl rfl)
theorem dJ28_delete_84 : decode cJ28_delete 84 = .ok (.iload 4, 2) := dk_21 4 (dk_at dksJ28_delete_3 13 rfl rfl)
theorem dJ28_delete_86 : decode cJ28_delete 86 = .ok (.aload_n 2, 1) := dk_44 (dk_at dksJ28_delete_3 15 rfl rfl)
theorem dJ28_delete_87 : decode cJ28_delete 87 = .ok (.iload 4, 2) := dk_21 4 (dk_at dksJ28_delete_3 16 rfl rfl)
theorem dJ28_delete_89 : decode cJ28_delete 89 = .ok (.iconst 1, 1) := dk_4 (dk_at dksJ28_delete_3 18 rfl rfl)
theorem dJ28_delete_90 : decode cJ28_delete 90 = .ok (.iadd, 1) := dk_96 (dk_at dksJ28_delete_3 19 rfl rfl)
theorem dJ28_delete_91 : decode cJ28_delete 91 = .ok (.iload 6, 2) := dk_21 6 (dk_at dksJ28_delete_3 20 rfl rfl)
theorem dJ28_delete_93 : decode cJ28_delete 93 = .ok (.iload_n 1, 1) := dk_27 (dk_at dksJ28_delete_3 22 rfl rfl)
theorem dJ28_delete_94 : decode cJ28_delete 94 = .ok (.iconst 1, 1) := dk_4 (dk_at dksJ28_delete_3 23 rfl rfl)
theorem dJ28_delete_95 : decode cJ28_delete 95 = .ok (.iadd, 1) := dk_96 (dk_at dksJ28_delete_4 0 rfl rfl)
theorem dJ28_delete_96 : decode cJ28_delete 96 = .ok (.isub, 1) := dk_100 (dk_at dksJ28_delete_4 1 rfl rfl)
theorem dJ28_delete_97 : decode cJ28_delete 97 = .ok (.invokestatic 27, 3) := dk_184 0 27 (dk_at dksJ28_delete_4 2 rfl rfl)
theorem dJ28_delete_100 : decode cJ28_delete 100 = .ok (.aload_n 2, 1) := dk_44 (dk_at dksJ28_delete_4 5 rfl rfl)
theorem dJ28_delete_101 : decode cJ28_delete 101 = .ok (.iload 4, 2) := dk_21 4 (dk_at dksJ28_delete_4 6 rfl rfl)
theorem dJ28_delete_103 : decode cJ28_delete 103 = .ok (.aconst_null, 1) := dk_1 (dk_at dksJ28_delete_4 8 rfl rfl)
theorem dJ28_delete_104 : decode cJ28_delete 104 = .ok (.aastore, 1) := dk_83 (dk_at dksJ28_delete_4 9 rfl rfl)
theorem dJ28_delete_105 : decode cJ28_delete 105 = .ok (.aload_n 0, 1) := dk_42 (dk_at dksJ28_delete_4 10 rfl rfl)
theorem dJ28_delete_106 : decode cJ28_delete 106 = .ok (.iload 4, 2) := dk_21 4 (dk_at dksJ28_delete_4 11 rfl rfl)
theorem dJ28_delete_108 : decode cJ28_delete 108 = .ok (.iload_n 3, 1) := dk_29 (dk_at dksJ28_delete_4 13 rfl rfl)
theorem dJ28_delete_109 : decode cJ28_delete 109 = .ok (.invokestatic 74, 3) := dk_184 0 74 (dk_at dksJ28_delete_4 14 rfl rfl)
theorem dJ28_delete_112 : decode cJ28_delete 112 = .ok (.putfield 24, 3) := dk_181 0 24 (dk_at dksJ28_delete_4 17 rfl rfl)
theorem dJ28_delete_115 : decode cJ28_delete 115 = .ok (.iconst 0, 1) := dk_3 (dk_at dksJ28_delete_4 20 rfl rfl)
theorem dJ28_delete_116 : decode cJ28_delete 116 = .ok (.ireturn, 1) := dk_172 (dk_at dksJ28_delete_4 21 rfl rfl)
theorem dJ28_delete_117 : decode cJ28_delete 117 = .ok (.aload_n 0, 1) := dk_42 (dk_at dksJ28_delete_4 22 rfl rfl)
theorem dJ28_delete_118 : decode cJ28_delete 118 = .ok (.iload 5, 2) := dk_21 5 (dk_at dksJ28_delete_5 0 rfl rfl)
theorem dJ28_delete_120 : decode cJ28_delete 120 = .ok (.iload_n 3, 1) := dk_29 (dk_at dksJ28_delete_5 2 rfl rfl)
theorem dJ28_delete_121 : decode cJ28_delete 121 = .ok (.invokestatic 68, 3) := dk_184 0 68 (dk_at dksJ28_delete_5 3 rfl rfl)
theorem dJ28_delete_124 : decode cJ28_delete 124 = .ok (.putfield 20, 3) := dk_181 0 20 (dk_at dksJ28_delete_5 6 rfl rfl)
theorem dJ28_delete_127 : decode cJ28_delete 127 = .ok (.iload_n 1, 1) := dk_27 (dk_at dksJ28_delete_5 9 rfl rfl)
theorem dJ28_delete_128 : decode cJ28_delete 128 = .ok (.aload_n 0, 1) := dk_42 (dk_at dksJ28_delete_5 10 rfl rfl)
theorem dJ28_delete_129 : decode cJ28_delete 129 = .ok (.getfield 20, 3) := dk_180 0 20 (dk_at dksJ28_delete_5 11 rfl rfl)
theorem dJ28_delete_132 : decode cJ28_delete 132 = .ok (.if_icmp .gt 17, 3) := dk_163 0 17 (dk_at dksJ28_delete_5 14 rfl rfl)
theorem dJ28_delete_135 : decode cJ28_delete 135 = .ok (.aload_n 2, 1) := dk_44 (dk_at dksJ28_delete_5 17 rfl rfl)
theorem dJ28_delete_136 : decode cJ28_delete 136 = .ok (.iload_n 1, 1) := dk_27 (dk_at dksJ28_delete_5 18 rfl rfl)
theorem dJ28_delete_137 : decode cJ28_delete 137 = .ok (.iconst 1, 1) := dk_4 (dk_at dksJ28_delete_5 19 rfl rfl)
theorem dJ28_delete_138 : decode cJ28_delete 138 = .ok (.iadd, 1) := dk_96 (dk_at dksJ28_delete_5 20 rfl rfl)
theorem dJ28_delete_139 : decode cJ28_delete 139 = .ok (.aload_n 2, 1) := dk_44 (dk_at dksJ28_delete_5 21 rfl rfl)
theorem dJ28_delete_140 : decode cJ28_delete 140 = .ok (.iload_n 1, 1) := dk_27 (dk_at dksJ28_delete_5 22 rfl rfl)
theorem dJ28_delete_141 : decode cJ28_delete 141 = .ok (.iload 7, 2) := dk_21 7 (dk_at dksJ28_delete_6 0 rfl rfl)
theorem dJ28_delete_143 : decode cJ28_delete 143 = .ok (.invokestatic 27, 3) := dk_184 0 27 (dk_at dksJ28_delete_6 2 rfl rfl)
theorem dJ28_delete_146 : decode cJ28_delete 146 = .ok (.goto 36, 3) := dk_167 0 36 (dk_at dksJ28_delete_6 5 rfl rfl)
theorem dJ28_delete_149 : decode cJ28_delete 149 = .ok (.aload_n 2, 1) := dk_44 (dk_at dksJ28_delete_6 8 rfl rfl)
theorem dJ28_delete_150 : decode cJ28_delete 150 = .ok (.iload_n 1, 1) := dk_27 (dk_at dksJ28_delete_6 9 rfl rfl)
theorem dJ28_delete_151 : decode cJ28_delete 151 = .ok (.iconst 1, 1) := dk_4 (dk_at dksJ28_delete_6 10 rfl rfl)
theorem dJ28_delete_152 : decode cJ28_delete 152 = .ok (.iadd, 1) := dk_96 (dk_at dksJ28_delete_6 11 rfl rfl)
theorem dJ28_delete_153 : decode cJ28_delete 153 = .ok (.aload_n 2, 1) := dk_44 (dk_at dksJ28_delete_6 12 rfl rfl)
theorem dJ28_delete_154 : decode cJ28_delete 154 = .ok (.iload_n 1, 1) := dk_27 (dk_at dksJ28_delete_6 13 rfl rfl)
theorem dJ28_delete_155 : decode cJ28_delete 155 = .ok (.iload_n 3, 1) := dk_29 (dk_at dksJ28_delete_6 14 rfl rfl)
theorem dJ28_delete_156 : decode cJ28_delete 156 = .ok (.iload_n 1, 1) := dk_27 (dk_at dksJ28_delete_6 15 rfl rfl)
theorem dJ28_delete_157 : decode cJ28_delete 157 = .ok (.iconst 1, 1) := dk_4 (dk_at dksJ28_delete_6 16 rfl rfl)
theorem dJ28_delete_158 : decode cJ28_delete 158 = .ok (.iadd, 1) := dk_96 (dk_at dksJ28_delete_6 17 rfl rfl)
theorem dJ28_delete_159 : decode cJ28_delete 159 = .ok (.isub, 1) := dk_100 (dk_at dksJ28_delete_6 18 rfl rfl)
theorem dJ28_delete_160 : decode cJ28_delete 160 = .ok (.invokestatic 27, 3) := dk_184 0 27 (dk_at dksJ28_delete_6 19 rfl rfl)
theorem dJ28_delete_163 : decode cJ28_delete 163 = .ok (.aload_n 2, 1) := dk_44 (dk_at dksJ28_delete_6 22 rfl rfl)
theorem dJ28_delete_164 : decode cJ28_delete 164 = .ok (.iload_n 3, 1) := dk_29 (dk_at dksJ28_delete_6 23 rfl rfl)
theorem dJ28_delete_165 : decode cJ28_delete 165 = .ok (.iconst 1, 1) := dk_4 (dk_at dksJ28_delete_7 0 rfl rfl)
theorem dJ28_delete_166 : decode cJ28_delete 166 = .ok (.isub, 1) := dk_100 (dk_at dksJ28_delete_7 1 rfl rfl)
theorem dJ28_delete_167 : decode cJ28_delete 167 = .ok (.aload_n 2, 1) := dk_44 (dk_at dksJ28_delete_7 2 rfl rfl)
theorem dJ28_delete_168 : decode cJ28_delete 168 = .ok (.iconst 0, 1) := dk_3 (dk_at dksJ28_delete_7 3 rfl rfl)
theorem dJ28_delete_169 : decode cJ28_delete 169 = .ok (.aaload, 1) := dk_50 (dk_at dksJ28_delete_7 4 rfl rfl)
theorem dJ28_delete_170 : decode cJ28_delete 170 = .ok (.aastore, 1) := dk_83 (dk_at dksJ28_delete_7 5 rfl rfl)
theorem dJ28_delete_171 : decode cJ28_delete 171 = .ok (.aload_n 2, 1) := dk_44 (dk_at dksJ28_delete_7 6 rfl rfl)
theorem dJ28_delete_172 : decode cJ28_delete 172 = .ok (.iconst 1, 1) := dk_4 (dk_at dksJ28_delete_7 7 rfl rfl)
theorem dJ28_delete_173 : decode cJ28_delete 173 = .ok (.aload_n 2, 1) := dk_44 (dk_at dksJ28_delete_7 8 rfl rfl)
theorem dJ28_delete_174 : decode cJ28_delete 174 = .ok (.iconst 0, 1) := dk_3 (dk_at dksJ28_delete_7 9 rfl rfl)
theorem dJ28_delete_175 : decode cJ28_delete 175 = .ok (.iload 5, 2) := dk_21 5 (dk_at dksJ28_delete_7 10 rfl rfl)
theorem dJ28_delete_177 : decode cJ28_delete 177 = .ok (.iconst 1, 1) := dk_4 (dk_at dksJ28_delete_7 12 rfl rfl)
theorem dJ28_delete_178 : decode cJ28_delete 178 = .ok (.isub, 1) := dk_100 (dk_at dksJ28_delete_7 13 rfl rfl)
theorem dJ28_delete_179 : decode cJ28_delete 179 = .ok (.invokestatic 27, 3) := dk_184 0 27 (dk_at dksJ28_delete_7 14 rfl rfl)
theorem dJ28_delete_182 : decode cJ28_delete 182 = .ok (.aload_n 2, 1) := dk_44 (dk_at dksJ28_delete_7 17 rfl rfl)
theorem dJ28_delete_183 : decode cJ28_delete 183 = .ok (.aload_n 0, 1) := dk_42 (dk_at dksJ28_delete_7 18 rfl rfl)
theorem dJ28_delete_184 : decode cJ28_delete 184 = .ok (.getfield 20, 3) := dk_180 0 20 (dk_at dksJ28_delete_7 19 rfl rfl)
theorem dJ28_delete_187 : decode cJ28_delete 187 = .ok (.aconst_null, 1) := dk_1 (dk_at dksJ28_delete_7 22 rfl rfl)
theorem dJ28_delete_188 : decode cJ28_delete 188 = .ok (.aastore, 1) := dk_83 (dk_at dksJ28_delete_7 23 rfl rfl)
theorem dJ28_delete_189 : decode cJ28_delete 189 = .ok (.iconst 1, 1) := dk_4 (dk_at dksJ28_delete_8 0 rfl rfl)
theorem dJ28_delete_190 : decode cJ28_delete 190 = .ok (.ireturn, 1) := dk_172 (dk_at dksJ28_delete_8 1 rfl rfl)
abbrev cJ28_sub : ByteArray := prog_60_method_9_code
def yJ28_sub : MethodName := ⟨RJ28, "sub", "(III)I"⟩
def dkwJ28_sub_0 : List UInt8 := [26, 27, 100, 89, 59, 156, 0, 7, 26, 28, 96, 59, 26, 172]
abbrev dktJ28_sub_0 : List UInt8 := dkwJ28_sub_0 ++ []
theorem dksJ28_sub_0 : cJ28_sub.data.toList.drop 0 = dktJ28_sub_0 := by decide +kernel
theorem dJ28_sub_0 : decode cJ28_sub 0 = .ok (.iload_n 0, 1) := dk_26 (dk_at dksJ28_sub_0 0 rfl rfl)
theorem dJ28_sub_1 : decode cJ28_sub 1 = .ok (.iload_n 1, 1) := dk_27 (dk_at dksJ28_sub_0 1 rfl rfl)
theorem dJ28_sub_2 : decode cJ28_sub 2 = .ok (.isub, 1) := dk_100 (dk_at dksJ28_sub_0 2 rfl rfl)
theorem dJ28_sub_3 : decode cJ28_sub 3 = .ok (.dup, 1) := dk_89 (dk_at dksJ28_sub_0 3 rfl rfl)
theorem dJ28_sub_4 : decode cJ28_sub 4 = .ok (.istore_n 0, 1) := dk_59 (dk_at dksJ28_sub_0 4 rfl rfl)
theorem dJ28_sub_5 : decode cJ28_sub 5 = .ok (.ifCond .ge 7, 3) := dk_156 0 7 (dk_at dksJ28_sub_0 5 rfl rfl)
theorem dJ28_sub_8 : decode cJ28_sub 8 = .ok (.iload_n 0, 1) := dk_26 (dk_at dksJ28_sub_0 8 rfl rfl)
theorem dJ28_sub_9 : decode cJ28_sub 9 = .ok (.iload_n 2, 1) := dk_28 (dk_at dksJ28_sub_0 9 rfl rfl)
theorem dJ28_sub_10 : decode cJ28_sub 10 = .ok (.iadd, 1) := dk_96 (dk_at dksJ28_sub_0 10 rfl rfl)
theorem dJ28_sub_11 : decode cJ28_sub 11 = .ok (.istore_n 0, 1) := dk_59 (dk_at dksJ28_sub_0 11 rfl rfl)
theorem dJ28_sub_12 : decode cJ28_sub 12 = .ok (.iload_n 0, 1) := dk_26 (dk_at dksJ28_sub_0 12 rfl rfl)
theorem dJ28_sub_13 : decode cJ28_sub 13 = .ok (.ireturn, 1) := dk_172 (dk_at dksJ28_sub_0 13 rfl rfl)
abbrev cJ28_dec : ByteArray := prog_60_method_7_code
def yJ28_dec : MethodName := ⟨RJ28, "dec", "(II)I"⟩
def dkwJ28_dec_0 : List UInt8 := [132, 0, 255, 26, 156, 0, 7, 27, 4, 100, 59, 26, 172]
abbrev dktJ28_dec_0 : List UInt8 := dkwJ28_dec_0 ++ []
theorem dksJ28_dec_0 : cJ28_dec.data.toList.drop 0 = dktJ28_dec_0 := by decide +kernel
theorem dJ28_dec_0 : decode cJ28_dec 0 = .ok (.iinc 0 (-1), 3) := dk_132 0 255 (dk_at dksJ28_dec_0 0 rfl rfl)
theorem dJ28_dec_3 : decode cJ28_dec 3 = .ok (.iload_n 0, 1) := dk_26 (dk_at dksJ28_dec_0 3 rfl rfl)
theorem dJ28_dec_4 : decode cJ28_dec 4 = .ok (.ifCond .ge 7, 3) := dk_156 0 7 (dk_at dksJ28_dec_0 4 rfl rfl)
theorem dJ28_dec_7 : decode cJ28_dec 7 = .ok (.iload_n 1, 1) := dk_27 (dk_at dksJ28_dec_0 7 rfl rfl)
theorem dJ28_dec_8 : decode cJ28_dec 8 = .ok (.iconst 1, 1) := dk_4 (dk_at dksJ28_dec_0 8 rfl rfl)
theorem dJ28_dec_9 : decode cJ28_dec 9 = .ok (.isub, 1) := dk_100 (dk_at dksJ28_dec_0 9 rfl rfl)
theorem dJ28_dec_10 : decode cJ28_dec 10 = .ok (.istore_n 0, 1) := dk_59 (dk_at dksJ28_dec_0 10 rfl rfl)
theorem dJ28_dec_11 : decode cJ28_dec 11 = .ok (.iload_n 0, 1) := dk_26 (dk_at dksJ28_dec_0 11 rfl rfl)
theorem dJ28_dec_12 : decode cJ28_dec 12 = .ok (.ireturn, 1) := dk_172 (dk_at dksJ28_dec_0 12 rfl rfl)
abbrev cJ28_init : ByteArray := prog_60_method_3_code
def yJ28_init : MethodName := ⟨RJ28, "<init>", "()V"⟩
def dkwJ28_init_0 : List UInt8 := [42, 183, 0, 42, 42, 16, 17, 189, 0, 47, 181, 0, 3, 177]
abbrev dktJ28_init_0 : List UInt8 := dkwJ28_init_0 ++ []
theorem dksJ28_init_0 : cJ28_init.data.toList.drop 0 = dktJ28_init_0 := by decide +kernel
theorem dJ28_init_0 : decode cJ28_init 0 = .ok (.aload_n 0, 1) := dk_42 (dk_at dksJ28_init_0 0 rfl rfl)
theorem dJ28_init_1 : decode cJ28_init 1 = .ok (.invokespecial 42, 3) := dk_183 0 42 (dk_at dksJ28_init_0 1 rfl rfl)
theorem dJ28_init_4 : decode cJ28_init 4 = .ok (.aload_n 0, 1) := dk_42 (dk_at dksJ28_init_0 4 rfl rfl)
theorem dJ28_init_5 : decode cJ28_init 5 = .ok (.bipush 17, 2) := dk_16 17 (dk_at dksJ28_init_0 5 rfl rfl)
theorem dJ28_init_7 : decode cJ28_init 7 = .ok (.anewarray 47, 3) := dk_189 0 47 (dk_at dksJ28_init_0 7 rfl rfl)
theorem dJ28_init_10 : decode cJ28_init 10 = .ok (.putfield 3, 3) := dk_181 0 3 (dk_at dksJ28_init_0 10 rfl rfl)
theorem dJ28_init_13 : decode cJ28_init 13 = .ok (.return_, 1) := dk_177 (dk_at dksJ28_init_0 13 rfl rfl)
abbrev cJ28_add : ByteArray := prog_60_method_28_code
def yJ28_add : MethodName := ⟨RJ28, "add", "(Ljava/lang/Object;)Z"⟩
def dkwJ28_add_0 : List UInt8 := [42, 43, 182, 0, 90, 4, 172]
abbrev dktJ28_add_0 : List UInt8 := dkwJ28_add_0 ++ []
theorem dksJ28_add_0 : cJ28_add.data.toList.drop 0 = dktJ28_add_0 := by decide +kernel
theorem dJ28_add_0 : decode cJ28_add 0 = .ok (.aload_n 0, 1) := dk_42 (dk_at dksJ28_add_0 0 rfl rfl)
theorem dJ28_add_1 : decode cJ28_add 1 = .ok (.aload_n 1, 1) := dk_43 (dk_at dksJ28_add_0 1 rfl rfl)
theorem dJ28_add_2 : decode cJ28_add 2 = .ok (.invokevirtual 90, 3) := dk_182 0 90 (dk_at dksJ28_add_0 2 rfl rfl)
theorem dJ28_add_5 : decode cJ28_add 5 = .ok (.iconst 1, 1) := dk_4 (dk_at dksJ28_add_0 5 rfl rfl)
theorem dJ28_add_6 : decode cJ28_add 6 = .ok (.ireturn, 1) := dk_172 (dk_at dksJ28_add_0 6 rfl rfl)
abbrev cJ28_addLast : ByteArray := prog_60_method_13_code
def yJ28_addLast : MethodName := ⟨RJ28, "addLast", "(Ljava/lang/Object;)V"⟩
def dkwJ28_addLast_2 : List UInt8 := [182, 0, 71, 177]
abbrev dktJ28_addLast_2 : List UInt8 := dkwJ28_addLast_2 ++ []
def dkwJ28_addLast_1 : List UInt8 := [42, 180, 0, 24, 42, 42, 180, 0, 20, 44, 190, 184, 0, 74, 90, 181, 0, 20, 160, 0, 8, 42, 4]
abbrev dktJ28_addLast_1 : List UInt8 := dkwJ28_addLast_1 ++ dktJ28_addLast_2
def dkwJ28_addLast_0 : List UInt8 := [43, 199, 0, 11, 187, 0, 65, 89, 183, 0, 67, 191, 42, 180, 0, 3, 77, 44, 42, 180, 0, 20, 43, 83]
abbrev dktJ28_addLast_0 : List UInt8 := dkwJ28_addLast_0 ++ dktJ28_addLast_1
theorem dksJ28_addLast_0 : cJ28_addLast.data.toList.drop 0 = dktJ28_addLast_0 := by decide +kernel
theorem dksJ28_addLast_1 : cJ28_addLast.data.toList.drop 24 = dktJ28_addLast_1 := dk_seg dksJ28_addLast_0 24 rfl rfl
theorem dksJ28_addLast_2 : cJ28_addLast.data.toList.drop 47 = dktJ28_addLast_2 := dk_seg dksJ28_addLast_1 23 rfl rfl
theorem dJ28_addLast_0 : decode cJ28_addLast 0 = .ok (.aload_n 1, 1) := dk_43 (dk_at dksJ28_addLast_0 0 rfl rfl)
theorem dJ28_addLast_1 : decode cJ28_addLast 1 = .ok (.ifnonnull 11, 3) := dk_199 0 11 (dk_at dksJ28_addLast_0 1 rfl rfl)
theorem dJ28_addLast_4 : decode cJ28_addLast 4 = .ok (.new 65, 3) := dk_187 0 65 (dk_at dksJ28_addLast_0 4 rfl rfl)
theorem dJ28_addLast_7 : decode cJ28_addLast 7 = .ok (.dup, 1) := dk_89 (dk_at dksJ28_addLast_0 7 rfl rfl)
theorem dJ28_addLast_8 : decode cJ28_addLast 8 = .ok (.invokespecial 67, 3) := dk_183 0 67 (dk_at dksJ28_addLast_0 8 rfl rfl)
theorem dJ28_addLast_11 : decode cJ28_addLast 11 = .ok (.athrow, 1) := dk_191 (dk_at dksJ28_addLast_0 11 rfl rfl)
theorem dJ28_addLast_12 : decode cJ28_addLast 12 = .ok (.aload_n 0, 1) := dk_42 (dk_at dksJ28_addLast_0 12 rfl rfl)
theorem dJ28_addLast_13 : decode cJ28_addLast 13 = .ok (.getfield 3, 3) := dk_180 0 3 (dk_at dksJ28_addLast_0 13 rfl rfl)
theorem dJ28_addLast_16 : decode cJ28_addLast 16 = .ok (.astore_n 2, 1) := dk_77 (dk_at dksJ28_addLast_0 16 rfl rfl)
theorem dJ28_addLast_17 : decode cJ28_addLast 17 = .ok (.aload_n 2, 1) := dk_44 (dk_at dksJ28_addLast_0 17 rfl rfl)
theorem dJ28_addLast_18 : decode cJ28_addLast 18 = .ok (.aload_n 0, 1) := dk_42 (dk_at dksJ28_addLast_0 18 rfl rfl)
theorem dJ28_addLast_19 : decode cJ28_addLast 19 = .ok (.getfield 20, 3) := dk_180 0 20 (dk_at dksJ28_addLast_0 19 rfl rfl)
theorem dJ28_addLast_22 : decode cJ28_addLast 22 = .ok (.aload_n 1, 1) := dk_43 (dk_at dksJ28_addLast_0 22 rfl rfl)
theorem dJ28_addLast_23 : decode cJ28_addLast 23 = .ok (.aastore, 1) := dk_83 (dk_at dksJ28_addLast_0 23 rfl rfl)
theorem dJ28_addLast_24 : decode cJ28_addLast 24 = .ok (.aload_n 0, 1) := dk_42 (dk_at dksJ28_addLast_1 0 rfl rfl)
theorem dJ28_addLast_25 : decode cJ28_addLast 25 = .ok (.getfield 24, 3) := dk_180 0 24 (dk_at dksJ28_addLast_1 1 rfl rfl)
theorem dJ28_addLast_28 : decode cJ28_addLast 28 = .ok (.aload_n 0, 1) := dk_42 (dk_at dksJ28_addLast_1 4 rfl rfl)
theorem dJ28_addLast_29 : decode cJ28_addLast 29 = .ok (.aload_n 0, 1) := dk_42 (dk_at dksJ28_addLast_1 5 rfl rfl)
theorem dJ28_addLast_30 : decode cJ28_addLast 30 = .ok (.getfield 20, 3) := dk_180 0 20 (dk_at dksJ28_addLast_1 6 rfl rfl)
theorem dJ28_addLast_33 : decode cJ28_addLast 33 = .ok (.aload_n 2, 1) := dk_44 (dk_at dksJ28_addLast_1 9 rfl rfl)
theorem dJ28_addLast_34 : decode cJ28_addLast 34 = .ok (.arraylength, 1) := dk_190 (dk_at dksJ28_addLast_1 10 rfl rfl)
theorem dJ28_addLast_35 : decode cJ28_addLast 35 = .ok (.invokestatic 74, 3) := dk_184 0 74 (dk_at dksJ28_addLast_1 11 rfl rfl)
theorem dJ28_addLast_38 : decode cJ28_addLast 38 = .ok (.dup_x1, 1) := dk_90 (dk_at dksJ28_addLast_1 14 rfl rfl)
theorem dJ28_addLast_39 : decode cJ28_addLast 39 = .ok (.putfield 20, 3) := dk_181 0 20 (dk_at dksJ28_addLast_1 15 rfl rfl)
theorem dJ28_addLast_42 : decode cJ28_addLast 42 = .ok (.if_icmp .ne 8, 3) := dk_160 0 8 (dk_at dksJ28_addLast_1 18 rfl rfl)
theorem dJ28_addLast_45 : decode cJ28_addLast 45 = .ok (.aload_n 0, 1) := dk_42 (dk_at dksJ28_addLast_1 21 rfl rfl)
theorem dJ28_addLast_46 : decode cJ28_addLast 46 = .ok (.iconst 1, 1) := dk_4 (dk_at dksJ28_addLast_1 22 rfl rfl)
theorem dJ28_addLast_47 : decode cJ28_addLast 47 = .ok (.invokevirtual 71, 3) := dk_182 0 71 (dk_at dksJ28_addLast_2 0 rfl rfl)
theorem dJ28_addLast_50 : decode cJ28_addLast 50 = .ok (.return_, 1) := dk_177 (dk_at dksJ28_addLast_2 3 rfl rfl)
abbrev cJ28_grow : ByteArray := prog_60_method_1_code
def yJ28_grow : MethodName := ⟨RJ28, "grow", "(I)V"⟩
def dkwJ28_grow_7 : List UInt8 := [177]
abbrev dktJ28_grow_7 : List UInt8 := dkwJ28_grow_7 ++ []
def dkwJ28_grow_6 : List UInt8 := [181, 0, 24, 54, 8, 21, 7, 21, 8, 162, 0, 15, 25, 5, 21, 7, 1, 83, 132, 7, 1, 167, 255, 240]
abbrev dktJ28_grow_6 : List UInt8 := dkwJ28_grow_6 ++ dktJ28_grow_7
def dkwJ28_grow_5 : List UInt8 := [42, 180, 0, 24, 100, 184, 0, 27, 42, 180, 0, 24, 54, 7, 42, 89, 180, 0, 24, 21, 6, 96, 90]
abbrev dktJ28_grow_5 : List UInt8 := dkwJ28_grow_5 ++ dktJ28_grow_6
def dkwJ28_grow_4 : List UInt8 := [198, 0, 71, 29, 28, 100, 54, 6, 25, 5, 42, 180, 0, 24, 25, 5, 42, 180, 0, 24, 21, 6, 96, 28]
abbrev dktJ28_grow_4 : List UInt8 := dkwJ28_grow_4 ++ dktJ28_grow_5
def dkwJ28_grow_3 : List UInt8 := [180, 0, 24, 161, 0, 24, 42, 180, 0, 20, 42, 180, 0, 24, 160, 0, 81, 25, 5, 42, 180, 0, 24, 50]
abbrev dktJ28_grow_3 : List UInt8 := dkwJ28_grow_3 ++ dktJ28_grow_4
def dkwJ28_grow_2 : List UInt8 := [182, 0, 10, 62, 42, 42, 180, 0, 3, 29, 184, 0, 14, 90, 181, 0, 3, 58, 5, 42, 180, 0, 20, 42]
abbrev dktJ28_grow_2 : List UInt8 := dkwJ28_grow_2 ++ dktJ28_grow_3
def dkwJ28_grow_1 : List UInt8 := [21, 4, 27, 161, 0, 15, 28, 21, 4, 96, 89, 62, 18, 9, 100, 158, 0, 11, 42, 27, 21, 4]
abbrev dktJ28_grow_1 : List UInt8 := dkwJ28_grow_1 ++ dktJ28_grow_2
def dkwJ28_grow_0 : List UInt8 := [42, 180, 0, 3, 190, 61, 28, 16, 64, 162, 0, 9, 28, 5, 96, 167, 0, 6, 28, 4, 122, 54, 4]
abbrev dktJ28_grow_0 : List UInt8 := dkwJ28_grow_0 ++ dktJ28_grow_1
theorem dksJ28_grow_0 : cJ28_grow.data.toList.drop 0 = dktJ28_grow_0 := by decide +kernel
theorem dksJ28_grow_1 : cJ28_grow.data.toList.drop 23 = dktJ28_grow_1 := dk_seg dksJ28_grow_0 23 rfl rfl
theorem dksJ28_grow_2 : cJ28_grow.data.toList.drop 45 = dktJ28_grow_2 := dk_seg dksJ28_grow_1 22 rfl rfl
theorem dksJ28_grow_3 : cJ28_grow.data.toList.drop 69 = dktJ28_grow_3 := dk_seg dksJ28_grow_2 24 rfl rfl
theorem dksJ28_grow_4 : cJ28_grow.data.toList.drop 93 = dktJ28_grow_4 := dk_seg dksJ28_grow_3 24 rfl rfl
theorem dksJ28_grow_5 : cJ28_grow.data.toList.drop 117 = dktJ28_grow_5 := dk_seg dksJ28_grow_4 24 rfl rfl
theorem dksJ28_grow_6 : cJ28_grow.data.toList.drop 140 = dktJ28_grow_6 := dk_seg dksJ28_grow_5 23 rfl rfl
theorem dksJ28_grow_7 : cJ28_grow.data.toList.drop 164 = dktJ28_grow_7 := dk_seg dksJ28_grow_6 24 rfl rfl
theorem dJ28_grow_0 : decode cJ28_grow 0 = .ok (.aload_n 0, 1) := dk_42 (dk_at dksJ28_grow_0 0 rfl rfl)
theorem dJ28_grow_1 : decode cJ28_grow 1 = .ok (.getfield 3, 3) := dk_180 0 3 (dk_at dksJ28_grow_0 1 rfl rfl)
theorem dJ28_grow_4 : decode cJ28_grow 4 = .ok (.arraylength, 1) := dk_190 (dk_at dksJ28_grow_0 4 rfl rfl)
theorem dJ28_grow_5 : decode cJ28_grow 5 = .ok (.istore_n 2, 1) := dk_61 (dk_at dksJ28_grow_0 5 rfl rfl)
theorem dJ28_grow_6 : decode cJ28_grow 6 = .ok (.iload_n 2, 1) := dk_28 (dk_at dksJ28_grow_0 6 rfl rfl)
theorem dJ28_grow_7 : decode cJ28_grow 7 = .ok (.bipush 64, 2) := dk_16 64 (dk_at dksJ28_grow_0 7 rfl rfl)
theorem dJ28_grow_9 : decode cJ28_grow 9 = .ok (.if_icmp .ge 9, 3) := dk_162 0 9 (dk_at dksJ28_grow_0 9 rfl rfl)
theorem dJ28_grow_12 : decode cJ28_grow 12 = .ok (.iload_n 2, 1) := dk_28 (dk_at dksJ28_grow_0 12 rfl rfl)
theorem dJ28_grow_13 : decode cJ28_grow 13 = .ok (.iconst 2, 1) := dk_5 (dk_at dksJ28_grow_0 13 rfl rfl)
theorem dJ28_grow_14 : decode cJ28_grow 14 = .ok (.iadd, 1) := dk_96 (dk_at dksJ28_grow_0 14 rfl rfl)
theorem dJ28_grow_15 : decode cJ28_grow 15 = .ok (.goto 6, 3) := dk_167 0 6 (dk_at dksJ28_grow_0 15 rfl rfl)
theorem dJ28_grow_18 : decode cJ28_grow 18 = .ok (.iload_n 2, 1) := dk_28 (dk_at dksJ28_grow_0 18 rfl rfl)
theorem dJ28_grow_19 : decode cJ28_grow 19 = .ok (.iconst 1, 1) := dk_4 (dk_at dksJ28_grow_0 19 rfl rfl)
theorem dJ28_grow_20 : decode cJ28_grow 20 = .ok (.ishr, 1) := dk_122 (dk_at dksJ28_grow_0 20 rfl rfl)
theorem dJ28_grow_21 : decode cJ28_grow 21 = .ok (.istore 4, 2) := dk_54 4 (dk_at dksJ28_grow_0 21 rfl rfl)
theorem dJ28_grow_23 : decode cJ28_grow 23 = .ok (.iload 4, 2) := dk_21 4 (dk_at dksJ28_grow_1 0 rfl rfl)
theorem dJ28_grow_25 : decode cJ28_grow 25 = .ok (.iload_n 1, 1) := dk_27 (dk_at dksJ28_grow_1 2 rfl rfl)
theorem dJ28_grow_26 : decode cJ28_grow 26 = .ok (.if_icmp .lt 15, 3) := dk_161 0 15 (dk_at dksJ28_grow_1 3 rfl rfl)
theorem dJ28_grow_29 : decode cJ28_grow 29 = .ok (.iload_n 2, 1) := dk_28 (dk_at dksJ28_grow_1 6 rfl rfl)
theorem dJ28_grow_30 : decode cJ28_grow 30 = .ok (.iload 4, 2) := dk_21 4 (dk_at dksJ28_grow_1 7 rfl rfl)
theorem dJ28_grow_32 : decode cJ28_grow 32 = .ok (.iadd, 1) := dk_96 (dk_at dksJ28_grow_1 9 rfl rfl)
theorem dJ28_grow_33 : decode cJ28_grow 33 = .ok (.dup, 1) := dk_89 (dk_at dksJ28_grow_1 10 rfl rfl)
theorem dJ28_grow_34 : decode cJ28_grow 34 = .ok (.istore_n 3, 1) := dk_62 (dk_at dksJ28_grow_1 11 rfl rfl)
theorem dJ28_grow_35 : decode cJ28_grow 35 = .ok (.ldc 9, 2) := dk_18 9 (dk_at dksJ28_grow_1 12 rfl rfl)
theorem dJ28_grow_37 : decode cJ28_grow 37 = .ok (.isub, 1) := dk_100 (dk_at dksJ28_grow_1 14 rfl rfl)
theorem dJ28_grow_38 : decode cJ28_grow 38 = .ok (.ifCond .le 11, 3) := dk_158 0 11 (dk_at dksJ28_grow_1 15 rfl rfl)
theorem dJ28_grow_41 : decode cJ28_grow 41 = .ok (.aload_n 0, 1) := dk_42 (dk_at dksJ28_grow_1 18 rfl rfl)
theorem dJ28_grow_42 : decode cJ28_grow 42 = .ok (.iload_n 1, 1) := dk_27 (dk_at dksJ28_grow_1 19 rfl rfl)
theorem dJ28_grow_43 : decode cJ28_grow 43 = .ok (.iload 4, 2) := dk_21 4 (dk_at dksJ28_grow_1 20 rfl rfl)
theorem dJ28_grow_45 : decode cJ28_grow 45 = .ok (.invokevirtual 10, 3) := dk_182 0 10 (dk_at dksJ28_grow_2 0 rfl rfl)
theorem dJ28_grow_48 : decode cJ28_grow 48 = .ok (.istore_n 3, 1) := dk_62 (dk_at dksJ28_grow_2 3 rfl rfl)
theorem dJ28_grow_49 : decode cJ28_grow 49 = .ok (.aload_n 0, 1) := dk_42 (dk_at dksJ28_grow_2 4 rfl rfl)
theorem dJ28_grow_50 : decode cJ28_grow 50 = .ok (.aload_n 0, 1) := dk_42 (dk_at dksJ28_grow_2 5 rfl rfl)
theorem dJ28_grow_51 : decode cJ28_grow 51 = .ok (.getfield 3, 3) := dk_180 0 3 (dk_at dksJ28_grow_2 6 rfl rfl)
theorem dJ28_grow_54 : decode cJ28_grow 54 = .ok (.iload_n 3, 1) := dk_29 (dk_at dksJ28_grow_2 9 rfl rfl)
theorem dJ28_grow_55 : decode cJ28_grow 55 = .ok (.invokestatic 14, 3) := dk_184 0 14 (dk_at dksJ28_grow_2 10 rfl rfl)
theorem dJ28_grow_58 : decode cJ28_grow 58 = .ok (.dup_x1, 1) := dk_90 (dk_at dksJ28_grow_2 13 rfl rfl)
theorem dJ28_grow_59 : decode cJ28_grow 59 = .ok (.putfield 3, 3) := dk_181 0 3 (dk_at dksJ28_grow_2 14 rfl rfl)
theorem dJ28_grow_62 : decode cJ28_grow 62 = .ok (.astore 5, 2) := dk_58 5 (dk_at dksJ28_grow_2 17 rfl rfl)
theorem dJ28_grow_64 : decode cJ28_grow 64 = .ok (.aload_n 0, 1) := dk_42 (dk_at dksJ28_grow_2 19 rfl rfl)
theorem dJ28_grow_65 : decode cJ28_grow 65 = .ok (.getfield 20, 3) := dk_180 0 20 (dk_at dksJ28_grow_2 20 rfl rfl)
theorem dJ28_grow_68 : decode cJ28_grow 68 = .ok (.aload_n 0, 1) := dk_42 (dk_at dksJ28_grow_2 23 rfl rfl)
theorem dJ28_grow_69 : decode cJ28_grow 69 = .ok (.getfield 24, 3) := dk_180 0 24 (dk_at dksJ28_grow_3 0 rfl rfl)
theorem dJ28_grow_72 : decode cJ28_grow 72 = .ok (.if_icmp .lt 24, 3) := dk_161 0 24 (dk_at dksJ28_grow_3 3 rfl rfl)
theorem dJ28_grow_75 : decode cJ28_grow 75 = .ok (.aload_n 0, 1) := dk_42 (dk_at dksJ28_grow_3 6 rfl rfl)
theorem dJ28_grow_76 : decode cJ28_grow 76 = .ok (.getfield 20, 3) := dk_180 0 20 (dk_at dksJ28_grow_3 7 rfl rfl)
theorem dJ28_grow_79 : decode cJ28_grow 79 = .ok (.aload_n 0, 1) := dk_42 (dk_at dksJ28_grow_3 10 rfl rfl)
theorem dJ28_grow_80 : decode cJ28_grow 80 = .ok (.getfield 24, 3) := dk_180 0 24 (dk_at dksJ28_grow_3 11 rfl rfl)
theorem dJ28_grow_83 : decode cJ28_grow 83 = .ok (.if_icmp .ne 81, 3) := dk_160 0 81 (dk_at dksJ28_grow_3 14 rfl rfl)
theorem dJ28_grow_86 : decode cJ28_grow 86 = .ok (.aload 5, 2) := dk_25 5 (dk_at dksJ28_grow_3 17 rfl rfl)
theorem dJ28_grow_88 : decode cJ28_grow 88 = .ok (.aload_n 0, 1) := dk_42 (dk_at dksJ28_grow_3 19 rfl rfl)
theorem dJ28_grow_89 : decode cJ28_grow 89 = .ok (.getfield 24, 3) := dk_180 0 24 (dk_at dksJ28_grow_3 20 rfl rfl)
theorem dJ28_grow_92 : decode cJ28_grow 92 = .ok (.aaload, 1) := dk_50 (dk_at dksJ28_grow_3 23 rfl rfl)
theorem dJ28_grow_93 : decode cJ28_grow 93 = .ok (.ifnull 71, 3) := dk_198 0 71 (dk_at dksJ28_grow_4 0 rfl rfl)
theorem dJ28_grow_96 : decode cJ28_grow 96 = .ok (.iload_n 3, 1) := dk_29 (dk_at dksJ28_grow_4 3 rfl rfl)
theorem dJ28_grow_97 : decode cJ28_grow 97 = .ok (.iload_n 2, 1) := dk_28 (dk_at dksJ28_grow_4 4 rfl rfl)
theorem dJ28_grow_98 : decode cJ28_grow 98 = .ok (.isub, 1) := dk_100 (dk_at dksJ28_grow_4 5 rfl rfl)
theorem dJ28_grow_99 : decode cJ28_grow 99 = .ok (.istore 6, 2) := dk_54 6 (dk_at dksJ28_grow_4 6 rfl rfl)
theorem dJ28_grow_101 : decode cJ28_grow 101 = .ok (.aload 5, 2) := dk_25 5 (dk_at dksJ28_grow_4 8 rfl rfl)
theorem dJ28_grow_103 : decode cJ28_grow 103 = .ok (.aload_n 0, 1) := dk_42 (dk_at dksJ28_grow_4 10 rfl rfl)
theorem dJ28_grow_104 : decode cJ28_grow 104 = .ok (.getfield 24, 3) := dk_180 0 24 (dk_at dksJ28_grow_4 11 rfl rfl)
theorem dJ28_grow_107 : decode cJ28_grow 107 = .ok (.aload 5, 2) := dk_25 5 (dk_at dksJ28_grow_4 14 rfl rfl)
theorem dJ28_grow_109 : decode cJ28_grow 109 = .ok (.aload_n 0, 1) := dk_42 (dk_at dksJ28_grow_4 16 rfl rfl)
theorem dJ28_grow_110 : decode cJ28_grow 110 = .ok (.getfield 24, 3) := dk_180 0 24 (dk_at dksJ28_grow_4 17 rfl rfl)
theorem dJ28_grow_113 : decode cJ28_grow 113 = .ok (.iload 6, 2) := dk_21 6 (dk_at dksJ28_grow_4 20 rfl rfl)
theorem dJ28_grow_115 : decode cJ28_grow 115 = .ok (.iadd, 1) := dk_96 (dk_at dksJ28_grow_4 22 rfl rfl)
theorem dJ28_grow_116 : decode cJ28_grow 116 = .ok (.iload_n 2, 1) := dk_28 (dk_at dksJ28_grow_4 23 rfl rfl)
theorem dJ28_grow_117 : decode cJ28_grow 117 = .ok (.aload_n 0, 1) := dk_42 (dk_at dksJ28_grow_5 0 rfl rfl)
theorem dJ28_grow_118 : decode cJ28_grow 118 = .ok (.getfield 24, 3) := dk_180 0 24 (dk_at dksJ28_grow_5 1 rfl rfl)
theorem dJ28_grow_121 : decode cJ28_grow 121 = .ok (.isub, 1) := dk_100 (dk_at dksJ28_grow_5 4 rfl rfl)
theorem dJ28_grow_122 : decode cJ28_grow 122 = .ok (.invokestatic 27, 3) := dk_184 0 27 (dk_at dksJ28_grow_5 5 rfl rfl)
theorem dJ28_grow_125 : decode cJ28_grow 125 = .ok (.aload_n 0, 1) := dk_42 (dk_at dksJ28_grow_5 8 rfl rfl)
theorem dJ28_grow_126 : decode cJ28_grow 126 = .ok (.getfield 24, 3) := dk_180 0 24 (dk_at dksJ28_grow_5 9 rfl rfl)
theorem dJ28_grow_129 : decode cJ28_grow 129 = .ok (.istore 7, 2) := dk_54 7 (dk_at dksJ28_grow_5 12 rfl rfl)
theorem dJ28_grow_131 : decode cJ28_grow 131 = .ok (.aload_n 0, 1) := dk_42 (dk_at dksJ28_grow_5 14 rfl rfl)
theorem dJ28_grow_132 : decode cJ28_grow 132 = .ok (.dup, 1) := dk_89 (dk_at dksJ28_grow_5 15 rfl rfl)
theorem dJ28_grow_133 : decode cJ28_grow 133 = .ok (.getfield 24, 3) := dk_180 0 24 (dk_at dksJ28_grow_5 16 rfl rfl)
theorem dJ28_grow_136 : decode cJ28_grow 136 = .ok (.iload 6, 2) := dk_21 6 (dk_at dksJ28_grow_5 19 rfl rfl)
theorem dJ28_grow_138 : decode cJ28_grow 138 = .ok (.iadd, 1) := dk_96 (dk_at dksJ28_grow_5 21 rfl rfl)
theorem dJ28_grow_139 : decode cJ28_grow 139 = .ok (.dup_x1, 1) := dk_90 (dk_at dksJ28_grow_5 22 rfl rfl)
theorem dJ28_grow_140 : decode cJ28_grow 140 = .ok (.putfield 24, 3) := dk_181 0 24 (dk_at dksJ28_grow_6 0 rfl rfl)
theorem dJ28_grow_143 : decode cJ28_grow 143 = .ok (.istore 8, 2) := dk_54 8 (dk_at dksJ28_grow_6 3 rfl rfl)
theorem dJ28_grow_145 : decode cJ28_grow 145 = .ok (.iload 7, 2) := dk_21 7 (dk_at dksJ28_grow_6 5 rfl rfl)
theorem dJ28_grow_147 : decode cJ28_grow 147 = .ok (.iload 8, 2) := dk_21 8 (dk_at dksJ28_grow_6 7 rfl rfl)
theorem dJ28_grow_149 : decode cJ28_grow 149 = .ok (.if_icmp .ge 15, 3) := dk_162 0 15 (dk_at dksJ28_grow_6 9 rfl rfl)
theorem dJ28_grow_152 : decode cJ28_grow 152 = .ok (.aload 5, 2) := dk_25 5 (dk_at dksJ28_grow_6 12 rfl rfl)
theorem dJ28_grow_154 : decode cJ28_grow 154 = .ok (.iload 7, 2) := dk_21 7 (dk_at dksJ28_grow_6 14 rfl rfl)
theorem dJ28_grow_156 : decode cJ28_grow 156 = .ok (.aconst_null, 1) := dk_1 (dk_at dksJ28_grow_6 16 rfl rfl)
theorem dJ28_grow_157 : decode cJ28_grow 157 = .ok (.aastore, 1) := dk_83 (dk_at dksJ28_grow_6 17 rfl rfl)
theorem dJ28_grow_158 : decode cJ28_grow 158 = .ok (.iinc 7 1, 3) := dk_132 7 1 (dk_at dksJ28_grow_6 18 rfl rfl)
theorem dJ28_grow_161 : decode cJ28_grow 161 = .ok (.goto (-16), 3) := dk_167 255 240 (dk_at dksJ28_grow_6 21 rfl rfl)
theorem dJ28_grow_164 : decode cJ28_grow 164 = .ok (.return_, 1) := dk_177 (dk_at dksJ28_grow_7 0 rfl rfl)
abbrev cJ28_newCapacity : ByteArray := prog_60_method_2_code
def yJ28_newCapacity : MethodName := ⟨RJ28, "newCapacity", "(II)I"⟩
def dkwJ28_newCapacity_2 : List UInt8 := [18, 9, 100, 156, 0, 9, 29, 28, 96, 167, 0, 5, 18, 9, 172]
abbrev dktJ28_newCapacity_2 : List UInt8 := dkwJ28_newCapacity_2 ++ []
def dkwJ28_newCapacity_1 : List UInt8 := [187, 0, 33, 89, 18, 35, 183, 0, 37, 191, 18, 41, 172, 27, 28, 164, 0, 6, 21, 4, 172, 29, 28, 96]
abbrev dktJ28_newCapacity_1 : List UInt8 := dkwJ28_newCapacity_1 ++ dktJ28_newCapacity_2
def dkwJ28_newCapacity_0 : List UInt8 := [42, 180, 0, 3, 190, 62, 29, 27, 96, 89, 54, 4, 18, 9, 100, 158, 0, 21, 21, 4, 156, 0, 13]
abbrev dktJ28_newCapacity_0 : List UInt8 := dkwJ28_newCapacity_0 ++ dktJ28_newCapacity_1
theorem dksJ28_newCapacity_0 : cJ28_newCapacity.data.toList.drop 0 = dktJ28_newCapacity_0 := by decide +kernel
theorem dksJ28_newCapacity_1 : cJ28_newCapacity.data.toList.drop 23 = dktJ28_newCapacity_1 := dk_seg dksJ28_newCapacity_0 23 rfl rfl
theorem dksJ28_newCapacity_2 : cJ28_newCapacity.data.toList.drop 47 = dktJ28_newCapacity_2 := dk_seg dksJ28_newCapacity_1 24 rfl rfl
theorem dJ28_newCapacity_0 : decode cJ28_newCapacity 0 = .ok (.aload_n 0, 1) := dk_42 (dk_at dksJ28_newCapacity_0 0 rfl rfl)
theorem dJ28_newCapacity_1 : decode cJ28_newCapacity 1 = .ok (.getfield 3, 3) := dk_180 0 3 (dk_at dksJ28_newCapacity_0 1 rfl rfl)
theorem dJ28_newCapacity_4 : decode cJ28_newCapacity 4 = .ok (.arraylength, 1) := dk_190 (dk_at dksJ28_newCapacity_0 4 rfl rfl)
theorem dJ28_newCapacity_5 : decode cJ28_newCapacity 5 = .ok (.istore_n 3, 1) := dk_62 (dk_at dksJ28_newCapacity_0 5 rfl rfl)
theorem dJ28_newCapacity_6 : decode cJ28_newCapacity 6 = .ok (.iload_n 3, 1) := dk_29 (dk_at dksJ28_newCapacity_0 6 rfl rfl)
theorem dJ28_newCapacity_7 : decode cJ28_newCapacity 7 = .ok (.iload_n 1, 1) := dk_27 (dk_at dksJ28_newCapacity_0 7 rfl rfl)
theorem dJ28_newCapacity_8 : decode cJ28_newCapacity 8 = .ok (.iadd, 1) := dk_96 (dk_at dksJ28_newCapacity_0 8 rfl rfl)
theorem dJ28_newCapacity_9 : decode cJ28_newCapacity 9 = .ok (.dup, 1) := dk_89 (dk_at dksJ28_newCapacity_0 9 rfl rfl)
theorem dJ28_newCapacity_10 : decode cJ28_newCapacity 10 = .ok (.istore 4, 2) := dk_54 4 (dk_at dksJ28_newCapacity_0 10 rfl rfl)
theorem dJ28_newCapacity_12 : decode cJ28_newCapacity 12 = .ok (.ldc 9, 2) := dk_18 9 (dk_at dksJ28_newCapacity_0 12 rfl rfl)
theorem dJ28_newCapacity_14 : decode cJ28_newCapacity 14 = .ok (.isub, 1) := dk_100 (dk_at dksJ28_newCapacity_0 14 rfl rfl)
theorem dJ28_newCapacity_15 : decode cJ28_newCapacity 15 = .ok (.ifCond .le 21, 3) := dk_158 0 21 (dk_at dksJ28_newCapacity_0 15 rfl rfl)
theorem dJ28_newCapacity_18 : decode cJ28_newCapacity 18 = .ok (.iload 4, 2) := dk_21 4 (dk_at dksJ28_newCapacity_0 18 rfl rfl)
theorem dJ28_newCapacity_20 : decode cJ28_newCapacity 20 = .ok (.ifCond .ge 13, 3) := dk_156 0 13 (dk_at dksJ28_newCapacity_0 20 rfl rfl)
theorem dJ28_newCapacity_23 : decode cJ28_newCapacity 23 = .ok (.new 33, 3) := dk_187 0 33 (dk_at dksJ28_newCapacity_1 0 rfl rfl)
theorem dJ28_newCapacity_26 : decode cJ28_newCapacity 26 = .ok (.dup, 1) := dk_89 (dk_at dksJ28_newCapacity_1 3 rfl rfl)
theorem dJ28_newCapacity_27 : decode cJ28_newCapacity 27 = .ok (.ldc 35, 2) := dk_18 35 (dk_at dksJ28_newCapacity_1 4 rfl rfl)
theorem dJ28_newCapacity_29 : decode cJ28_newCapacity 29 = .ok (.invokespecial 37, 3) := dk_183 0 37 (dk_at dksJ28_newCapacity_1 6 rfl rfl)
theorem dJ28_newCapacity_32 : decode cJ28_newCapacity 32 = .ok (.athrow, 1) := dk_191 (dk_at dksJ28_newCapacity_1 9 rfl rfl)
theorem dJ28_newCapacity_33 : decode cJ28_newCapacity 33 = .ok (.ldc 41, 2) := dk_18 41 (dk_at dksJ28_newCapacity_1 10 rfl rfl)
theorem dJ28_newCapacity_35 : decode cJ28_newCapacity 35 = .ok (.ireturn, 1) := dk_172 (dk_at dksJ28_newCapacity_1 12 rfl rfl)
theorem dJ28_newCapacity_36 : decode cJ28_newCapacity 36 = .ok (.iload_n 1, 1) := dk_27 (dk_at dksJ28_newCapacity_1 13 rfl rfl)
theorem dJ28_newCapacity_37 : decode cJ28_newCapacity 37 = .ok (.iload_n 2, 1) := dk_28 (dk_at dksJ28_newCapacity_1 14 rfl rfl)
theorem dJ28_newCapacity_38 : decode cJ28_newCapacity 38 = .ok (.if_icmp .le 6, 3) := dk_164 0 6 (dk_at dksJ28_newCapacity_1 15 rfl rfl)
theorem dJ28_newCapacity_41 : decode cJ28_newCapacity 41 = .ok (.iload 4, 2) := dk_21 4 (dk_at dksJ28_newCapacity_1 18 rfl rfl)
theorem dJ28_newCapacity_43 : decode cJ28_newCapacity 43 = .ok (.ireturn, 1) := dk_172 (dk_at dksJ28_newCapacity_1 20 rfl rfl)
theorem dJ28_newCapacity_44 : decode cJ28_newCapacity 44 = .ok (.iload_n 3, 1) := dk_29 (dk_at dksJ28_newCapacity_1 21 rfl rfl)
theorem dJ28_newCapacity_45 : decode cJ28_newCapacity 45 = .ok (.iload_n 2, 1) := dk_28 (dk_at dksJ28_newCapacity_1 22 rfl rfl)
theorem dJ28_newCapacity_46 : decode cJ28_newCapacity 46 = .ok (.iadd, 1) := dk_96 (dk_at dksJ28_newCapacity_1 23 rfl rfl)
theorem dJ28_newCapacity_47 : decode cJ28_newCapacity 47 = .ok (.ldc 9, 2) := dk_18 9 (dk_at dksJ28_newCapacity_2 0 rfl rfl)
theorem dJ28_newCapacity_49 : decode cJ28_newCapacity 49 = .ok (.isub, 1) := dk_100 (dk_at dksJ28_newCapacity_2 2 rfl rfl)
theorem dJ28_newCapacity_50 : decode cJ28_newCapacity 50 = .ok (.ifCond .ge 9, 3) := dk_156 0 9 (dk_at dksJ28_newCapacity_2 3 rfl rfl)
theorem dJ28_newCapacity_53 : decode cJ28_newCapacity 53 = .ok (.iload_n 3, 1) := dk_29 (dk_at dksJ28_newCapacity_2 6 rfl rfl)
theorem dJ28_newCapacity_54 : decode cJ28_newCapacity 54 = .ok (.iload_n 2, 1) := dk_28 (dk_at dksJ28_newCapacity_2 7 rfl rfl)
theorem dJ28_newCapacity_55 : decode cJ28_newCapacity 55 = .ok (.iadd, 1) := dk_96 (dk_at dksJ28_newCapacity_2 8 rfl rfl)
theorem dJ28_newCapacity_56 : decode cJ28_newCapacity 56 = .ok (.goto 5, 3) := dk_167 0 5 (dk_at dksJ28_newCapacity_2 9 rfl rfl)
theorem dJ28_newCapacity_59 : decode cJ28_newCapacity 59 = .ok (.ldc 9, 2) := dk_18 9 (dk_at dksJ28_newCapacity_2 12 rfl rfl)
theorem dJ28_newCapacity_61 : decode cJ28_newCapacity 61 = .ok (.ireturn, 1) := dk_172 (dk_at dksJ28_newCapacity_2 14 rfl rfl)
abbrev cJ28_iterator : ByteArray := prog_60_method_39_code
def yJ28_iterator : MethodName := ⟨RJ28, "iterator", "()Ljava/util/Iterator;"⟩
def dkwJ28_iterator_0 : List UInt8 := [187, 0, 131, 89, 42, 183, 0, 133, 176]
abbrev dktJ28_iterator_0 : List UInt8 := dkwJ28_iterator_0 ++ []
theorem dksJ28_iterator_0 : cJ28_iterator.data.toList.drop 0 = dktJ28_iterator_0 := by decide +kernel
theorem dJ28_iterator_0 : decode cJ28_iterator 0 = .ok (.new 131, 3) := dk_187 0 131 (dk_at dksJ28_iterator_0 0 rfl rfl)
theorem dJ28_iterator_3 : decode cJ28_iterator 3 = .ok (.dup, 1) := dk_89 (dk_at dksJ28_iterator_0 3 rfl rfl)
theorem dJ28_iterator_4 : decode cJ28_iterator 4 = .ok (.aload_n 0, 1) := dk_42 (dk_at dksJ28_iterator_0 4 rfl rfl)
theorem dJ28_iterator_5 : decode cJ28_iterator 5 = .ok (.invokespecial 133, 3) := dk_183 0 133 (dk_at dksJ28_iterator_0 5 rfl rfl)
theorem dJ28_iterator_8 : decode cJ28_iterator 8 = .ok (.areturn, 1) := dk_176 (dk_at dksJ28_iterator_0 8 rfl rfl)
abbrev cJ28_size : ByteArray := prog_60_method_37_code
def yJ28_size : MethodName := ⟨RJ28, "size", "()I"⟩
def dkwJ28_size_0 : List UInt8 := [42, 180, 0, 20, 42, 180, 0, 24, 42, 180, 0, 3, 190, 184, 0, 127, 172]
abbrev dktJ28_size_0 : List UInt8 := dkwJ28_size_0 ++ []
theorem dksJ28_size_0 : cJ28_size.data.toList.drop 0 = dktJ28_size_0 := by decide +kernel
theorem dJ28_size_0 : decode cJ28_size 0 = .ok (.aload_n 0, 1) := dk_42 (dk_at dksJ28_size_0 0 rfl rfl)
theorem dJ28_size_1 : decode cJ28_size 1 = .ok (.getfield 20, 3) := dk_180 0 20 (dk_at dksJ28_size_0 1 rfl rfl)
theorem dJ28_size_4 : decode cJ28_size 4 = .ok (.aload_n 0, 1) := dk_42 (dk_at dksJ28_size_0 4 rfl rfl)
theorem dJ28_size_5 : decode cJ28_size 5 = .ok (.getfield 24, 3) := dk_180 0 24 (dk_at dksJ28_size_0 5 rfl rfl)
theorem dJ28_size_8 : decode cJ28_size 8 = .ok (.aload_n 0, 1) := dk_42 (dk_at dksJ28_size_0 8 rfl rfl)
theorem dJ28_size_9 : decode cJ28_size 9 = .ok (.getfield 3, 3) := dk_180 0 3 (dk_at dksJ28_size_0 9 rfl rfl)
theorem dJ28_size_12 : decode cJ28_size 12 = .ok (.arraylength, 1) := dk_190 (dk_at dksJ28_size_0 12 rfl rfl)
theorem dJ28_size_13 : decode cJ28_size 13 = .ok (.invokestatic 127, 3) := dk_184 0 127 (dk_at dksJ28_size_0 13 rfl rfl)
theorem dJ28_size_16 : decode cJ28_size 16 = .ok (.ireturn, 1) := dk_172 (dk_at dksJ28_size_0 16 rfl rfl)
abbrev cJ28_toArray : ByteArray := prog_60_method_55_code
def yJ28_toArray : MethodName := ⟨RJ28, "toArray", "()[Ljava/lang/Object;"⟩
def dkwJ28_toArray_0 : List UInt8 := [42, 18, 188, 182, 0, 189, 176]
abbrev dktJ28_toArray_0 : List UInt8 := dkwJ28_toArray_0 ++ []
theorem dksJ28_toArray_0 : cJ28_toArray.data.toList.drop 0 = dktJ28_toArray_0 := by decide +kernel
theorem dJ28_toArray_0 : decode cJ28_toArray 0 = .ok (.aload_n 0, 1) := dk_42 (dk_at dksJ28_toArray_0 0 rfl rfl)
theorem dJ28_toArray_1 : decode cJ28_toArray 1 = .ok (.ldc 188, 2) := dk_18 188 (dk_at dksJ28_toArray_0 1 rfl rfl)
theorem dJ28_toArray_3 : decode cJ28_toArray 3 = .ok (.invokevirtual 189, 3) := dk_182 0 189 (dk_at dksJ28_toArray_0 3 rfl rfl)
theorem dJ28_toArray_6 : decode cJ28_toArray 6 = .ok (.areturn, 1) := dk_176 (dk_at dksJ28_toArray_0 6 rfl rfl)
abbrev cJ28_toArray_2 : ByteArray := prog_60_method_56_code
def yJ28_toArray_2 : MethodName := ⟨RJ28, "toArray", "(Ljava/lang/Class;)[Ljava/lang/Object;"⟩
def dkwJ28_toArray_2_4 : List UInt8 := [21, 5, 184, 0, 27, 45, 176]
abbrev dktJ28_toArray_2_4 : List UInt8 := dkwJ28_toArray_2_4 ++ []
def dkwJ28_toArray_2_3 : List UInt8 := [44, 190, 21, 4, 100, 184, 0, 27, 21, 6, 21, 5, 159, 0, 16, 44, 3, 45, 44, 190, 21, 4, 100]
abbrev dktJ28_toArray_2_3 : List UInt8 := dkwJ28_toArray_2_3 ++ dktJ28_toArray_2_4
def dkwJ28_toArray_2_2 : List UInt8 := [184, 0, 193, 78, 167, 0, 28, 44, 3, 21, 6, 21, 4, 100, 43, 184, 0, 193, 78, 44, 21, 4, 45, 3]
abbrev dktJ28_toArray_2_2 : List UInt8 := dkwJ28_toArray_2_2 ++ dktJ28_toArray_2_3
def dkwJ28_toArray_2_1 : List UInt8 := [163, 0, 7, 3, 167, 0, 5, 44, 190, 96, 89, 54, 6, 155, 0, 16, 44, 21, 4, 21, 6, 43]
abbrev dktJ28_toArray_2_1 : List UInt8 := dkwJ28_toArray_2_1 ++ dktJ28_toArray_2_2
def dkwJ28_toArray_2_0 : List UInt8 := [42, 180, 0, 3, 77, 42, 180, 0, 24, 54, 4, 42, 180, 0, 20, 54, 5, 21, 5, 21, 4, 21, 5]
abbrev dktJ28_toArray_2_0 : List UInt8 := dkwJ28_toArray_2_0 ++ dktJ28_toArray_2_1
theorem dksJ28_toArray_2_0 : cJ28_toArray_2.data.toList.drop 0 = dktJ28_toArray_2_0 := by decide +kernel
theorem dksJ28_toArray_2_1 : cJ28_toArray_2.data.toList.drop 23 = dktJ28_toArray_2_1 := dk_seg dksJ28_toArray_2_0 23 rfl rfl
theorem dksJ28_toArray_2_2 : cJ28_toArray_2.data.toList.drop 45 = dktJ28_toArray_2_2 := dk_seg dksJ28_toArray_2_1 22 rfl rfl
theorem dksJ28_toArray_2_3 : cJ28_toArray_2.data.toList.drop 69 = dktJ28_toArray_2_3 := dk_seg dksJ28_toArray_2_2 24 rfl rfl
theorem dksJ28_toArray_2_4 : cJ28_toArray_2.data.toList.drop 92 = dktJ28_toArray_2_4 := dk_seg dksJ28_toArray_2_3 23 rfl rfl
theorem dJ28_toArray_2_0 : decode cJ28_toArray_2 0 = .ok (.aload_n 0, 1) := dk_42 (dk_at dksJ28_toArray_2_0 0 rfl rfl)
theorem dJ28_toArray_2_1 : decode cJ28_toArray_2 1 = .ok (.getfield 3, 3) := dk_180 0 3 (dk_at dksJ28_toArray_2_0 1 rfl rfl)
theorem dJ28_toArray_2_4 : decode cJ28_toArray_2 4 = .ok (.astore_n 2, 1) := dk_77 (dk_at dksJ28_toArray_2_0 4 rfl rfl)
theorem dJ28_toArray_2_5 : decode cJ28_toArray_2 5 = .ok (.aload_n 0, 1) := dk_42 (dk_at dksJ28_toArray_2_0 5 rfl rfl)
theorem dJ28_toArray_2_6 : decode cJ28_toArray_2 6 = .ok (.getfield 24, 3) := dk_180 0 24 (dk_at dksJ28_toArray_2_0 6 rfl rfl)
theorem dJ28_toArray_2_9 : decode cJ28_toArray_2 9 = .ok (.istore 4, 2) := dk_54 4 (dk_at dksJ28_toArray_2_0 9 rfl rfl)
theorem dJ28_toArray_2_11 : decode cJ28_toArray_2 11 = .ok (.aload_n 0, 1) := dk_42 (dk_at dksJ28_toArray_2_0 11 rfl rfl)
theorem dJ28_toArray_2_12 : decode cJ28_toArray_2 12 = .ok (.getfield 20, 3) := dk_180 0 20 (dk_at dksJ28_toArray_2_0 12 rfl rfl)
theorem dJ28_toArray_2_15 : decode cJ28_toArray_2 15 = .ok (.istore 5, 2) := dk_54 5 (dk_at dksJ28_toArray_2_0 15 rfl rfl)
theorem dJ28_toArray_2_17 : decode cJ28_toArray_2 17 = .ok (.iload 5, 2) := dk_21 5 (dk_at dksJ28_toArray_2_0 17 rfl rfl)
theorem dJ28_toArray_2_19 : decode cJ28_toArray_2 19 = .ok (.iload 4, 2) := dk_21 4 (dk_at dksJ28_toArray_2_0 19 rfl rfl)
theorem dJ28_toArray_2_21 : decode cJ28_toArray_2 21 = .ok (.iload 5, 2) := dk_21 5 (dk_at dksJ28_toArray_2_0 21 rfl rfl)
theorem dJ28_toArray_2_23 : decode cJ28_toArray_2 23 = .ok (.if_icmp .gt 7, 3) := dk_163 0 7 (dk_at dksJ28_toArray_2_1 0 rfl rfl)
theorem dJ28_toArray_2_26 : decode cJ28_toArray_2 26 = .ok (.iconst 0, 1) := dk_3 (dk_at dksJ28_toArray_2_1 3 rfl rfl)
theorem dJ28_toArray_2_27 : decode cJ28_toArray_2 27 = .ok (.goto 5, 3) := dk_167 0 5 (dk_at dksJ28_toArray_2_1 4 rfl rfl)
theorem dJ28_toArray_2_30 : decode cJ28_toArray_2 30 = .ok (.aload_n 2, 1) := dk_44 (dk_at dksJ28_toArray_2_1 7 rfl rfl)
theorem dJ28_toArray_2_31 : decode cJ28_toArray_2 31 = .ok (.arraylength, 1) := dk_190 (dk_at dksJ28_toArray_2_1 8 rfl rfl)
theorem dJ28_toArray_2_32 : decode cJ28_toArray_2 32 = .ok (.iadd, 1) := dk_96 (dk_at dksJ28_toArray_2_1 9 rfl rfl)
theorem dJ28_toArray_2_33 : decode cJ28_toArray_2 33 = .ok (.dup, 1) := dk_89 (dk_at dksJ28_toArray_2_1 10 rfl rfl)
theorem dJ28_toArray_2_34 : decode cJ28_toArray_2 34 = .ok (.istore 6, 2) := dk_54 6 (dk_at dksJ28_toArray_2_1 11 rfl rfl)
theorem dJ28_toArray_2_36 : decode cJ28_toArray_2 36 = .ok (.ifCond .lt 16, 3) := dk_155 0 16 (dk_at dksJ28_toArray_2_1 13 rfl rfl)
theorem dJ28_toArray_2_39 : decode cJ28_toArray_2 39 = .ok (.aload_n 2, 1) := dk_44 (dk_at dksJ28_toArray_2_1 16 rfl rfl)
theorem dJ28_toArray_2_40 : decode cJ28_toArray_2 40 = .ok (.iload 4, 2) := dk_21 4 (dk_at dksJ28_toArray_2_1 17 rfl rfl)
theorem dJ28_toArray_2_42 : decode cJ28_toArray_2 42 = .ok (.iload 6, 2) := dk_21 6 (dk_at dksJ28_toArray_2_1 19 rfl rfl)
theorem dJ28_toArray_2_44 : decode cJ28_toArray_2 44 = .ok (.aload_n 1, 1) := dk_43 (dk_at dksJ28_toArray_2_1 21 rfl rfl)
theorem dJ28_toArray_2_45 : decode cJ28_toArray_2 45 = .ok (.invokestatic 193, 3) := dk_184 0 193 (dk_at dksJ28_toArray_2_2 0 rfl rfl)
theorem dJ28_toArray_2_48 : decode cJ28_toArray_2 48 = .ok (.astore_n 3, 1) := dk_78 (dk_at dksJ28_toArray_2_2 3 rfl rfl)
theorem dJ28_toArray_2_49 : decode cJ28_toArray_2 49 = .ok (.goto 28, 3) := dk_167 0 28 (dk_at dksJ28_toArray_2_2 4 rfl rfl)
theorem dJ28_toArray_2_52 : decode cJ28_toArray_2 52 = .ok (.aload_n 2, 1) := dk_44 (dk_at dksJ28_toArray_2_2 7 rfl rfl)
theorem dJ28_toArray_2_53 : decode cJ28_toArray_2 53 = .ok (.iconst 0, 1) := dk_3 (dk_at dksJ28_toArray_2_2 8 rfl rfl)
theorem dJ28_toArray_2_54 : decode cJ28_toArray_2 54 = .ok (.iload 6, 2) := dk_21 6 (dk_at dksJ28_toArray_2_2 9 rfl rfl)
theorem dJ28_toArray_2_56 : decode cJ28_toArray_2 56 = .ok (.iload 4, 2) := dk_21 4 (dk_at dksJ28_toArray_2_2 11 rfl rfl)
theorem dJ28_toArray_2_58 : decode cJ28_toArray_2 58 = .ok (.isub, 1) := dk_100 (dk_at dksJ28_toArray_2_2 13 rfl rfl)
theorem dJ28_toArray_2_59 : decode cJ28_toArray_2 59 = .ok (.aload_n 1, 1) := dk_43 (dk_at dksJ28_toArray_2_2 14 rfl rfl)
theorem dJ28_toArray_2_60 : decode cJ28_toArray_2 60 = .ok (.invokestatic 193, 3) := dk_184 0 193 (dk_at dksJ28_toArray_2_2 15 rfl rfl)
theorem dJ28_toArray_2_63 : decode cJ28_toArray_2 63 = .ok (.astore_n 3, 1) := dk_78 (dk_at dksJ28_toArray_2_2 18 rfl rfl)
theorem dJ28_toArray_2_64 : decode cJ28_toArray_2 64 = .ok (.aload_n 2, 1) := dk_44 (dk_at dksJ28_toArray_2_2 19 rfl rfl)
theorem dJ28_toArray_2_65 : decode cJ28_toArray_2 65 = .ok (.iload 4, 2) := dk_21 4 (dk_at dksJ28_toArray_2_2 20 rfl rfl)
theorem dJ28_toArray_2_67 : decode cJ28_toArray_2 67 = .ok (.aload_n 3, 1) := dk_45 (dk_at dksJ28_toArray_2_2 22 rfl rfl)
theorem dJ28_toArray_2_68 : decode cJ28_toArray_2 68 = .ok (.iconst 0, 1) := dk_3 (dk_at dksJ28_toArray_2_2 23 rfl rfl)
theorem dJ28_toArray_2_69 : decode cJ28_toArray_2 69 = .ok (.aload_n 2, 1) := dk_44 (dk_at dksJ28_toArray_2_3 0 rfl rfl)
theorem dJ28_toArray_2_70 : decode cJ28_toArray_2 70 = .ok (.arraylength, 1) := dk_190 (dk_at dksJ28_toArray_2_3 1 rfl rfl)
theorem dJ28_toArray_2_71 : decode cJ28_toArray_2 71 = .ok (.iload 4, 2) := dk_21 4 (dk_at dksJ28_toArray_2_3 2 rfl rfl)
theorem dJ28_toArray_2_73 : decode cJ28_toArray_2 73 = .ok (.isub, 1) := dk_100 (dk_at dksJ28_toArray_2_3 4 rfl rfl)
theorem dJ28_toArray_2_74 : decode cJ28_toArray_2 74 = .ok (.invokestatic 27, 3) := dk_184 0 27 (dk_at dksJ28_toArray_2_3 5 rfl rfl)
theorem dJ28_toArray_2_77 : decode cJ28_toArray_2 77 = .ok (.iload 6, 2) := dk_21 6 (dk_at dksJ28_toArray_2_3 8 rfl rfl)
theorem dJ28_toArray_2_79 : decode cJ28_toArray_2 79 = .ok (.iload 5, 2) := dk_21 5 (dk_at dksJ28_toArray_2_3 10 rfl rfl)
theorem dJ28_toArray_2_81 : decode cJ28_toArray_2 81 = .ok (.if_icmp .eq 16, 3) := dk_159 0 16 (dk_at dksJ28_toArray_2_3 12 rfl rfl)
theorem dJ28_toArray_2_84 : decode cJ28_toArray_2 84 = .ok (.aload_n 2, 1) := dk_44 (dk_at dksJ28_toArray_2_3 15 rfl rfl)
theorem dJ28_toArray_2_85 : decode cJ28_toArray_2 85 = .ok (.iconst 0, 1) := dk_3 (dk_at dksJ28_toArray_2_3 16 rfl rfl)
theorem dJ28_toArray_2_86 : decode cJ28_toArray_2 86 = .ok (.aload_n 3, 1) := dk_45 (dk_at dksJ28_toArray_2_3 17 rfl rfl)
theorem dJ28_toArray_2_87 : decode cJ28_toArray_2 87 = .ok (.aload_n 2, 1) := dk_44 (dk_at dksJ28_toArray_2_3 18 rfl rfl)
theorem dJ28_toArray_2_88 : decode cJ28_toArray_2 88 = .ok (.arraylength, 1) := dk_190 (dk_at dksJ28_toArray_2_3 19 rfl rfl)
theorem dJ28_toArray_2_89 : decode cJ28_toArray_2 89 = .ok (.iload 4, 2) := dk_21 4 (dk_at dksJ28_toArray_2_3 20 rfl rfl)
theorem dJ28_toArray_2_91 : decode cJ28_toArray_2 91 = .ok (.isub, 1) := dk_100 (dk_at dksJ28_toArray_2_3 22 rfl rfl)
theorem dJ28_toArray_2_92 : decode cJ28_toArray_2 92 = .ok (.iload 5, 2) := dk_21 5 (dk_at dksJ28_toArray_2_4 0 rfl rfl)
theorem dJ28_toArray_2_94 : decode cJ28_toArray_2 94 = .ok (.invokestatic 27, 3) := dk_184 0 27 (dk_at dksJ28_toArray_2_4 2 rfl rfl)
theorem dJ28_toArray_2_97 : decode cJ28_toArray_2 97 = .ok (.aload_n 3, 1) := dk_45 (dk_at dksJ28_toArray_2_4 5 rfl rfl)
theorem dJ28_toArray_2_98 : decode cJ28_toArray_2 98 = .ok (.areturn, 1) := dk_176 (dk_at dksJ28_toArray_2_4 6 rfl rfl)
theorem q137 : (Jvm.Cond.initialized "java/util/ArrayDeque") ∈ lw_all := lw_g (lw_at lw_m1 41 rfl) rfl
theorem q1091 : (Jvm.Cond.selects "java/util/ArrayDeque" ({ cls := "java/lang/Object", name := "getClass", desc := "()Ljava/lang/Class;" } : Jvm.MethodName) ({ cls := "java/lang/Object", name := "getClass", desc := "()Ljava/lang/Class;" } : Jvm.MethodName)) ∈ lw_all := lw_g (lw_at lw_m5 35 rfl) rfl
theorem q1360 : (Jvm.Cond.instanceMethod ({ cls := "java/util/ArrayDeque", name := "isEmpty", desc := "()Z" } : Jvm.MethodName)) ∈ lw_all := lw_g (lw_at lw_m6 64 rfl) rfl
theorem q1361 : (Jvm.Cond.selects "java/util/ArrayDeque" ({ cls := "java/util/ArrayDeque", name := "isEmpty", desc := "()Z" } : Jvm.MethodName) ({ cls := "java/util/ArrayDeque", name := "isEmpty", desc := "()Z" } : Jvm.MethodName)) ∈ lw_all := lw_g (lw_at lw_m6 65 rfl) rfl
theorem q1362 : (Jvm.Cond.code ({ cls := "java/util/ArrayDeque", name := "isEmpty", desc := "()Z" } : Jvm.MethodName) prog_60_method_38_code (1 : Nat) (Option.some Jvm.ClassFile.FieldType.boolean)) ∈ lw_all := lw_g (lw_at lw_m6 66 rfl) rfl
theorem q1467 : (Jvm.Cond.static ({ cls := "java/util/ArrayDeque", name := "nonNullElementAt", desc := "([Ljava/lang/Object;I)Ljava/lang/Object;" } : Jvm.MethodName)) ∈ lw_all := lw_g (lw_at lw_m6 171 rfl) rfl
theorem q1468 : (Jvm.Cond.code ({ cls := "java/util/ArrayDeque", name := "nonNullElementAt", desc := "([Ljava/lang/Object;I)Ljava/lang/Object;" } : Jvm.MethodName) prog_60_method_11_code (3 : Nat) (Option.some (Jvm.ClassFile.FieldType.object "java/lang/Object"))) ∈ lw_all := lw_g (lw_at lw_m6 172 rfl) rfl
theorem q1470 : (Jvm.Cond.static ({ cls := "java/util/ArrayDeque", name := "inc", desc := "(II)I" } : Jvm.MethodName)) ∈ lw_all := lw_g (lw_at lw_m6 174 rfl) rfl
theorem q1471 : (Jvm.Cond.code ({ cls := "java/util/ArrayDeque", name := "inc", desc := "(II)I" } : Jvm.MethodName) prog_60_method_6_code (2 : Nat) (Option.some Jvm.ClassFile.FieldType.int)) ∈ lw_all := lw_g (lw_at lw_m6 175 rfl) rfl
theorem q1501 : (Jvm.Cond.instanceMethod ({ cls := "java/util/ArrayDeque", name := "poll", desc := "()Ljava/lang/Object;" } : Jvm.MethodName)) ∈ lw_all := lw_g (lw_at lw_m6 205 rfl) rfl
theorem q1502 : (Jvm.Cond.selects "java/util/ArrayDeque" ({ cls := "java/util/ArrayDeque", name := "poll", desc := "()Ljava/lang/Object;" } : Jvm.MethodName) ({ cls := "java/util/ArrayDeque", name := "poll", desc := "()Ljava/lang/Object;" } : Jvm.MethodName)) ∈ lw_all := lw_g (lw_at lw_m6 206 rfl) rfl
theorem q1503 : (Jvm.Cond.code ({ cls := "java/util/ArrayDeque", name := "poll", desc := "()Ljava/lang/Object;" } : Jvm.MethodName) prog_60_method_31_code (1 : Nat) (Option.some (Jvm.ClassFile.FieldType.object "java/lang/Object"))) ∈ lw_all := lw_g (lw_at lw_m6 207 rfl) rfl
theorem q1504 : (Jvm.Cond.methodLink "java/util/ArrayDeque" (93 : Nat) ({ cls := "java/util/ArrayDeque", name := "pollFirst", desc := "()Ljava/lang/Object;" } : Jvm.MethodName)) ∈ lw_all := lw_g (lw_at lw_m6 208 rfl) rfl
theorem q1505 : (Jvm.Cond.instanceMethod ({ cls := "java/util/ArrayDeque", name := "pollFirst", desc := "()Ljava/lang/Object;" } : Jvm.MethodName)) ∈ lw_all := lw_g (lw_at lw_m6 209 rfl) rfl
theorem q1506 : (Jvm.Cond.selects "java/util/ArrayDeque" ({ cls := "java/util/ArrayDeque", name := "pollFirst", desc := "()Ljava/lang/Object;" } : Jvm.MethodName) ({ cls := "java/util/ArrayDeque", name := "pollFirst", desc := "()Ljava/lang/Object;" } : Jvm.MethodName)) ∈ lw_all := lw_g (lw_at lw_m6 210 rfl) rfl
theorem q1507 : (Jvm.Cond.code ({ cls := "java/util/ArrayDeque", name := "pollFirst", desc := "()Ljava/lang/Object;" } : Jvm.MethodName) prog_60_method_20_code (4 : Nat) (Option.some (Jvm.ClassFile.FieldType.object "java/lang/Object"))) ∈ lw_all := lw_g (lw_at lw_m6 211 rfl) rfl
theorem q1508 : (Jvm.Cond.methodLink "java/util/ArrayDeque" (103 : Nat) ({ cls := "java/util/ArrayDeque", name := "elementAt", desc := "([Ljava/lang/Object;I)Ljava/lang/Object;" } : Jvm.MethodName)) ∈ lw_all := lw_g (lw_at lw_m6 212 rfl) rfl
theorem q1509 : (Jvm.Cond.static ({ cls := "java/util/ArrayDeque", name := "elementAt", desc := "([Ljava/lang/Object;I)Ljava/lang/Object;" } : Jvm.MethodName)) ∈ lw_all := lw_g (lw_at lw_m6 213 rfl) rfl
theorem q1510 : (Jvm.Cond.code ({ cls := "java/util/ArrayDeque", name := "elementAt", desc := "([Ljava/lang/Object;I)Ljava/lang/Object;" } : Jvm.MethodName) prog_60_method_10_code (2 : Nat) (Option.some (Jvm.ClassFile.FieldType.object "java/lang/Object"))) ∈ lw_all := lw_g (lw_at lw_m6 214 rfl) rfl
theorem q1511 : (Jvm.Cond.methodLink "java/util/ArrayDeque" (74 : Nat) ({ cls := "java/util/ArrayDeque", name := "inc", desc := "(II)I" } : Jvm.MethodName)) ∈ lw_all := lw_g (lw_at lw_m6 215 rfl) rfl
theorem q2112 : (Jvm.Cond.instanceMethod ({ cls := "java/util/ArrayDeque", name := "delete", desc := "(I)Z" } : Jvm.MethodName)) ∈ lw_all := lw_g (lw_at lw_m9 96 rfl) rfl
theorem q2113 : (Jvm.Cond.selects "java/util/ArrayDeque" ({ cls := "java/util/ArrayDeque", name := "delete", desc := "(I)Z" } : Jvm.MethodName) ({ cls := "java/util/ArrayDeque", name := "delete", desc := "(I)Z" } : Jvm.MethodName)) ∈ lw_all := lw_g (lw_at lw_m9 97 rfl) rfl
theorem q2114 : (Jvm.Cond.code ({ cls := "java/util/ArrayDeque", name := "delete", desc := "(I)Z" } : Jvm.MethodName) prog_60_method_36_code (8 : Nat) (Option.some Jvm.ClassFile.FieldType.boolean)) ∈ lw_all := lw_g (lw_at lw_m9 98 rfl) rfl
theorem q2115 : (Jvm.Cond.methodLink "java/util/ArrayDeque" (127 : Nat) ({ cls := "java/util/ArrayDeque", name := "sub", desc := "(III)I" } : Jvm.MethodName)) ∈ lw_all := lw_g (lw_at lw_m9 99 rfl) rfl
theorem q2116 : (Jvm.Cond.static ({ cls := "java/util/ArrayDeque", name := "sub", desc := "(III)I" } : Jvm.MethodName)) ∈ lw_all := lw_g (lw_at lw_m9 100 rfl) rfl
theorem q2117 : (Jvm.Cond.code ({ cls := "java/util/ArrayDeque", name := "sub", desc := "(III)I" } : Jvm.MethodName) prog_60_method_9_code (3 : Nat) (Option.some Jvm.ClassFile.FieldType.int)) ∈ lw_all := lw_g (lw_at lw_m9 101 rfl) rfl
theorem q2118 : (Jvm.Cond.methodLink "java/util/ArrayDeque" (27 : Nat) ({ cls := "java/lang/System", name := "arraycopy", desc := "(Ljava/lang/Object;ILjava/lang/Object;II)V" } : Jvm.MethodName)) ∈ lw_all := lw_g (lw_at lw_m9 102 rfl) rfl
theorem q2119 : (Jvm.Cond.methodLink "java/util/ArrayDeque" (68 : Nat) ({ cls := "java/util/ArrayDeque", name := "dec", desc := "(II)I" } : Jvm.MethodName)) ∈ lw_all := lw_g (lw_at lw_m9 103 rfl) rfl
theorem q2120 : (Jvm.Cond.static ({ cls := "java/util/ArrayDeque", name := "dec", desc := "(II)I" } : Jvm.MethodName)) ∈ lw_all := lw_g (lw_at lw_m9 104 rfl) rfl
theorem q2121 : (Jvm.Cond.code ({ cls := "java/util/ArrayDeque", name := "dec", desc := "(II)I" } : Jvm.MethodName) prog_60_method_7_code (2 : Nat) (Option.some Jvm.ClassFile.FieldType.int)) ∈ lw_all := lw_g (lw_at lw_m9 105 rfl) rfl
theorem q2384 : (Jvm.Cond.instantiable "java/util/ArrayDeque" (3 : Nat)) ∈ lw_all := lw_g (lw_at lw_m10 128 rfl) rfl
theorem q2386 : (Jvm.Cond.instanceMethod ({ cls := "java/util/ArrayDeque", name := "<init>", desc := "()V" } : Jvm.MethodName)) ∈ lw_all := lw_g (lw_at lw_m10 130 rfl) rfl
theorem q2387 : (Jvm.Cond.code ({ cls := "java/util/ArrayDeque", name := "<init>", desc := "()V" } : Jvm.MethodName) prog_60_method_3_code (1 : Nat) (Option.none : Option Jvm.ClassFile.FieldType)) ∈ lw_all := lw_g (lw_at lw_m10 131 rfl) rfl
theorem q2388 : (Jvm.Cond.methodLink "java/util/ArrayDeque" (42 : Nat) ({ cls := "java/util/AbstractCollection", name := "<init>", desc := "()V" } : Jvm.MethodName)) ∈ lw_all := lw_g (lw_at lw_m10 132 rfl) rfl
theorem q2389 : (Jvm.Cond.classLink "java/util/ArrayDeque" (47 : Nat) "java/lang/Object") ∈ lw_all := lw_g (lw_at lw_m10 133 rfl) rfl
theorem q2390 : (Jvm.Cond.fieldLink "java/util/ArrayDeque" (3 : Nat) "java/util/ArrayDeque" "elements" "[Ljava/lang/Object;") ∈ lw_all := lw_g (lw_at lw_m10 134 rfl) rfl
theorem q2393 : (Jvm.Cond.fieldLink "java/util/ArrayDeque" (24 : Nat) "java/util/ArrayDeque" "head" "I") ∈ lw_all := lw_g (lw_at lw_m10 137 rfl) rfl
theorem q2394 : (Jvm.Cond.fieldLink "java/util/ArrayDeque" (20 : Nat) "java/util/ArrayDeque" "tail" "I") ∈ lw_all := lw_g (lw_at lw_m10 138 rfl) rfl
theorem q2395 : (Jvm.Cond.lays "java/util/ArrayDeque" "java/util/ArrayDeque" "elements" "[Ljava/lang/Object;") ∈ lw_all := lw_g (lw_at lw_m10 139 rfl) rfl
theorem q2396 : (Jvm.Cond.soleField "java/util/ArrayDeque" "elements") ∈ lw_all := lw_g (lw_at lw_m10 140 rfl) rfl
theorem q2397 : (Jvm.Cond.lays "java/util/ArrayDeque" "java/util/ArrayDeque" "head" "I") ∈ lw_all := lw_g (lw_at lw_m10 141 rfl) rfl
theorem q2398 : (Jvm.Cond.soleField "java/util/ArrayDeque" "head") ∈ lw_all := lw_g (lw_at lw_m10 142 rfl) rfl
theorem q2399 : (Jvm.Cond.lays "java/util/ArrayDeque" "java/util/ArrayDeque" "tail" "I") ∈ lw_all := lw_g (lw_at lw_m10 143 rfl) rfl
theorem q2400 : (Jvm.Cond.soleField "java/util/ArrayDeque" "tail") ∈ lw_all := lw_g (lw_at lw_m10 144 rfl) rfl
theorem q2401 : (Jvm.Cond.superclass "java/util/ArrayDeque" "java/util/AbstractCollection") ∈ lw_all := lw_g (lw_at lw_m10 145 rfl) rfl
theorem q2403 : (Jvm.Cond.instanceMethod ({ cls := "java/util/ArrayDeque", name := "add", desc := "(Ljava/lang/Object;)Z" } : Jvm.MethodName)) ∈ lw_all := lw_g (lw_at lw_m10 147 rfl) rfl
theorem q2404 : (Jvm.Cond.selects "java/util/ArrayDeque" ({ cls := "java/util/ArrayDeque", name := "add", desc := "(Ljava/lang/Object;)Z" } : Jvm.MethodName) ({ cls := "java/util/ArrayDeque", name := "add", desc := "(Ljava/lang/Object;)Z" } : Jvm.MethodName)) ∈ lw_all := lw_g (lw_at lw_m10 148 rfl) rfl
theorem q2405 : (Jvm.Cond.code ({ cls := "java/util/ArrayDeque", name := "add", desc := "(Ljava/lang/Object;)Z" } : Jvm.MethodName) prog_60_method_28_code (2 : Nat) (Option.some Jvm.ClassFile.FieldType.boolean)) ∈ lw_all := lw_g (lw_at lw_m10 149 rfl) rfl
theorem q2406 : (Jvm.Cond.methodLink "java/util/ArrayDeque" (90 : Nat) ({ cls := "java/util/ArrayDeque", name := "addLast", desc := "(Ljava/lang/Object;)V" } : Jvm.MethodName)) ∈ lw_all := lw_g (lw_at lw_m10 150 rfl) rfl
theorem q2407 : (Jvm.Cond.instanceMethod ({ cls := "java/util/ArrayDeque", name := "addLast", desc := "(Ljava/lang/Object;)V" } : Jvm.MethodName)) ∈ lw_all := lw_g (lw_at lw_m10 151 rfl) rfl
theorem q2408 : (Jvm.Cond.selects "java/util/ArrayDeque" ({ cls := "java/util/ArrayDeque", name := "addLast", desc := "(Ljava/lang/Object;)V" } : Jvm.MethodName) ({ cls := "java/util/ArrayDeque", name := "addLast", desc := "(Ljava/lang/Object;)V" } : Jvm.MethodName)) ∈ lw_all := lw_g (lw_at lw_m10 152 rfl) rfl
theorem q2409 : (Jvm.Cond.code ({ cls := "java/util/ArrayDeque", name := "addLast", desc := "(Ljava/lang/Object;)V" } : Jvm.MethodName) prog_60_method_13_code (3 : Nat) (Option.none : Option Jvm.ClassFile.FieldType)) ∈ lw_all := lw_g (lw_at lw_m10 153 rfl) rfl
theorem q2410 : (Jvm.Cond.classLink "java/util/ArrayDeque" (65 : Nat) "java/lang/NullPointerException") ∈ lw_all := lw_g (lw_at lw_m10 154 rfl) rfl
theorem q2411 : (Jvm.Cond.methodLink "java/util/ArrayDeque" (67 : Nat) ({ cls := "java/lang/NullPointerException", name := "<init>", desc := "()V" } : Jvm.MethodName)) ∈ lw_all := lw_g (lw_at lw_m10 155 rfl) rfl
theorem q2412 : (Jvm.Cond.methodLink "java/util/ArrayDeque" (71 : Nat) ({ cls := "java/util/ArrayDeque", name := "grow", desc := "(I)V" } : Jvm.MethodName)) ∈ lw_all := lw_g (lw_at lw_m10 156 rfl) rfl
theorem q2413 : (Jvm.Cond.privateMethod ({ cls := "java/util/ArrayDeque", name := "grow", desc := "(I)V" } : Jvm.MethodName)) ∈ lw_tbl := lw_at lw_m10 157 rfl
theorem q2414 : (Jvm.Cond.instanceMethod ({ cls := "java/util/ArrayDeque", name := "grow", desc := "(I)V" } : Jvm.MethodName)) ∈ lw_all := lw_g (lw_at lw_m10 158 rfl) rfl
theorem q2415 : (Jvm.Cond.code ({ cls := "java/util/ArrayDeque", name := "grow", desc := "(I)V" } : Jvm.MethodName) prog_60_method_1_code (9 : Nat) (Option.none : Option Jvm.ClassFile.FieldType)) ∈ lw_all := lw_g (lw_at lw_m10 159 rfl) rfl
theorem q2416 : (Jvm.Cond.constant "java/util/ArrayDeque" (9 : Nat) (2147483639 : Int32)) ∈ lw_all := lw_g (lw_at lw_m10 160 rfl) rfl
theorem q2417 : (Jvm.Cond.methodLink "java/util/ArrayDeque" (10 : Nat) ({ cls := "java/util/ArrayDeque", name := "newCapacity", desc := "(II)I" } : Jvm.MethodName)) ∈ lw_all := lw_g (lw_at lw_m10 161 rfl) rfl
theorem q2418 : (Jvm.Cond.privateMethod ({ cls := "java/util/ArrayDeque", name := "newCapacity", desc := "(II)I" } : Jvm.MethodName)) ∈ lw_tbl := lw_at lw_m10 162 rfl
theorem q2419 : (Jvm.Cond.instanceMethod ({ cls := "java/util/ArrayDeque", name := "newCapacity", desc := "(II)I" } : Jvm.MethodName)) ∈ lw_all := lw_g (lw_at lw_m10 163 rfl) rfl
theorem q2420 : (Jvm.Cond.code ({ cls := "java/util/ArrayDeque", name := "newCapacity", desc := "(II)I" } : Jvm.MethodName) prog_60_method_2_code (5 : Nat) (Option.some Jvm.ClassFile.FieldType.int)) ∈ lw_all := lw_g (lw_at lw_m10 164 rfl) rfl
theorem q2421 : (Jvm.Cond.constant "java/util/ArrayDeque" (41 : Nat) (2147483647 : Int32)) ∈ lw_all := lw_g (lw_at lw_m10 165 rfl) rfl
theorem q2422 : (Jvm.Cond.methodLink "java/util/ArrayDeque" (14 : Nat) ({ cls := "java/util/Arrays", name := "copyOf", desc := "([Ljava/lang/Object;I)[Ljava/lang/Object;" } : Jvm.MethodName)) ∈ lw_all := lw_g (lw_at lw_m10 166 rfl) rfl
theorem q2646 : (Jvm.Cond.instanceMethod ({ cls := "java/util/ArrayDeque", name := "iterator", desc := "()Ljava/util/Iterator;" } : Jvm.MethodName)) ∈ lw_all := lw_g (lw_at lw_m11 150 rfl) rfl
theorem q2647 : (Jvm.Cond.selects "java/util/ArrayDeque" ({ cls := "java/util/ArrayDeque", name := "iterator", desc := "()Ljava/util/Iterator;" } : Jvm.MethodName) ({ cls := "java/util/ArrayDeque", name := "iterator", desc := "()Ljava/util/Iterator;" } : Jvm.MethodName)) ∈ lw_all := lw_g (lw_at lw_m11 151 rfl) rfl
theorem q2648 : (Jvm.Cond.code ({ cls := "java/util/ArrayDeque", name := "iterator", desc := "()Ljava/util/Iterator;" } : Jvm.MethodName) prog_60_method_39_code (1 : Nat) (Option.some (Jvm.ClassFile.FieldType.object "java/util/Iterator"))) ∈ lw_all := lw_g (lw_at lw_m11 152 rfl) rfl
theorem q2649 : (Jvm.Cond.classLink "java/util/ArrayDeque" (131 : Nat) "java/util/ArrayDeque$DeqIterator") ∈ lw_all := lw_g (lw_at lw_m11 153 rfl) rfl
theorem q2651 : (Jvm.Cond.methodLink "java/util/ArrayDeque" (133 : Nat) ({ cls := "java/util/ArrayDeque$DeqIterator", name := "<init>", desc := "(Ljava/util/ArrayDeque;)V" } : Jvm.MethodName)) ∈ lw_all := lw_g (lw_at lw_m11 155 rfl) rfl
theorem q2656 : (Jvm.Cond.instanceMethod ({ cls := "java/util/ArrayDeque", name := "size", desc := "()I" } : Jvm.MethodName)) ∈ lw_all := lw_g (lw_at lw_m11 160 rfl) rfl
theorem q2657 : (Jvm.Cond.selects "java/util/ArrayDeque" ({ cls := "java/util/ArrayDeque", name := "size", desc := "()I" } : Jvm.MethodName) ({ cls := "java/util/ArrayDeque", name := "size", desc := "()I" } : Jvm.MethodName)) ∈ lw_all := lw_g (lw_at lw_m11 161 rfl) rfl
theorem q2658 : (Jvm.Cond.code ({ cls := "java/util/ArrayDeque", name := "size", desc := "()I" } : Jvm.MethodName) prog_60_method_37_code (1 : Nat) (Option.some Jvm.ClassFile.FieldType.int)) ∈ lw_all := lw_g (lw_at lw_m11 162 rfl) rfl
theorem q2707 : (Jvm.Cond.castable "java/util/ArrayDeque" "java/util/Collection") ∈ lw_tbl := lw_at lw_m11 211 rfl
theorem q2708 : (Jvm.Cond.selects "java/util/ArrayDeque" ({ cls := "java/util/Collection", name := "toArray", desc := "()[Ljava/lang/Object;" } : Jvm.MethodName) ({ cls := "java/util/ArrayDeque", name := "toArray", desc := "()[Ljava/lang/Object;" } : Jvm.MethodName)) ∈ lw_all := lw_g (lw_at lw_m11 212 rfl) rfl
theorem q2709 : (Jvm.Cond.unhidden "java/util/ArrayDeque" "toArray" "()[Ljava/lang/Object;") ∈ lw_tbl := lw_at lw_m11 213 rfl
theorem q2710 : (Jvm.Cond.instanceMethod ({ cls := "java/util/ArrayDeque", name := "toArray", desc := "()[Ljava/lang/Object;" } : Jvm.MethodName)) ∈ lw_all := lw_g (lw_at lw_m11 214 rfl) rfl
theorem q2711 : (Jvm.Cond.publicMethod ({ cls := "java/util/ArrayDeque", name := "toArray", desc := "()[Ljava/lang/Object;" } : Jvm.MethodName)) ∈ lw_tbl := lw_at lw_m11 215 rfl
theorem q2712 : (Jvm.Cond.code ({ cls := "java/util/ArrayDeque", name := "toArray", desc := "()[Ljava/lang/Object;" } : Jvm.MethodName) prog_60_method_55_code (1 : Nat) (Option.some (Jvm.ClassFile.FieldType.array (Jvm.ClassFile.FieldType.object "java/lang/Object")))) ∈ lw_all := lw_g (lw_at lw_m11 216 rfl) rfl
theorem q2713 : (Jvm.Cond.classLink "java/util/ArrayDeque" (188 : Nat) "[Ljava/lang/Object;") ∈ lw_all := lw_g (lw_at lw_m11 217 rfl) rfl
theorem q2714 : (Jvm.Cond.methodLink "java/util/ArrayDeque" (189 : Nat) ({ cls := "java/util/ArrayDeque", name := "toArray", desc := "(Ljava/lang/Class;)[Ljava/lang/Object;" } : Jvm.MethodName)) ∈ lw_all := lw_g (lw_at lw_m11 218 rfl) rfl
theorem q2715 : (Jvm.Cond.privateMethod ({ cls := "java/util/ArrayDeque", name := "toArray", desc := "(Ljava/lang/Class;)[Ljava/lang/Object;" } : Jvm.MethodName)) ∈ lw_tbl := lw_at lw_m11 219 rfl
theorem q2716 : (Jvm.Cond.instanceMethod ({ cls := "java/util/ArrayDeque", name := "toArray", desc := "(Ljava/lang/Class;)[Ljava/lang/Object;" } : Jvm.MethodName)) ∈ lw_all := lw_g (lw_at lw_m11 220 rfl) rfl
theorem q2717 : (Jvm.Cond.code ({ cls := "java/util/ArrayDeque", name := "toArray", desc := "(Ljava/lang/Class;)[Ljava/lang/Object;" } : Jvm.MethodName) prog_60_method_56_code (7 : Nat) (Option.some (Jvm.ClassFile.FieldType.array (Jvm.ClassFile.FieldType.object "java/lang/Object")))) ∈ lw_all := lw_g (lw_at lw_m11 221 rfl) rfl
theorem q2718 : (Jvm.Cond.methodLink "java/util/ArrayDeque" (193 : Nat) ({ cls := "java/util/Arrays", name := "copyOfRange", desc := "([Ljava/lang/Object;IILjava/lang/Class;)[Ljava/lang/Object;" } : Jvm.MethodName)) ∈ lw_all := lw_g (lw_at lw_m11 222 rfl) rfl
theorem q3350 : (Jvm.Cond.castable "java/util/ArrayDeque" "java/lang/Object") ∈ lw_tbl := lw_at lw_m14 134 rfl
theorem in_J28 : ∀ w ∈ wsJ280, w ∈ lw_all := lw_in wsJ280 [2395, 2397, 2399] (by decide +kernel) (by decide +kernel)
/-! java/util/LinkedList$Node -/
def RJ29 : String := "java/util/LinkedList$Node"
def TJ29 : u_T := fun k => match k with
  | 0 => ("java/util/LinkedList$Node", "item", "Ljava/lang/Object;", false)
  | 1 => ("java/util/LinkedList$Node", "next", "Ljava/util/LinkedList$Node;", false)
  | _ => ("java/util/LinkedList$Node", "prev", "Ljava/util/LinkedList$Node;", false)
def tyJ29 : Nat → FieldType := fun k => match k with
  | 0 => .object "java/lang/Object"
  | 1 => .object "java/util/LinkedList$Node"
  | _ => .object "java/util/LinkedList$Node"
abbrev wsJ290 : List Cond := u_ws RJ29 TJ29 3
theorem nmJ29 : ∀ a, a < 3 → ∀ b, b < 3 → a ≠ b → (TJ29 a).2.1 ≠ (TJ29 b).2.1 := by decide +kernel
theorem tyJ29_ok : ∀ k, k < 3 → parseFieldDescriptor (TJ29 k).2.2.1 = some (tyJ29 k) := by decide +kernel
abbrev cJ29_init : ByteArray := prog_73_method_1_code
def yJ29_init : MethodName := ⟨RJ29, "<init>", "(Ljava/util/LinkedList$Node;Ljava/lang/Object;Ljava/util/LinkedList$Node;)V"⟩
def dkwJ29_init_0 : List UInt8 := [42, 183, 0, 1, 42, 44, 181, 0, 7, 42, 45, 181, 0, 13, 42, 43, 181, 0, 17, 177]
abbrev dktJ29_init_0 : List UInt8 := dkwJ29_init_0 ++ []
theorem dksJ29_init_0 : cJ29_init.data.toList.drop 0 = dktJ29_init_0 := by decide +kernel
theorem dJ29_init_0 : decode cJ29_init 0 = .ok (.aload_n 0, 1) := dk_42 (dk_at dksJ29_init_0 0 rfl rfl)
theorem dJ29_init_1 : decode cJ29_init 1 = .ok (.invokespecial 1, 3) := dk_183 0 1 (dk_at dksJ29_init_0 1 rfl rfl)
theorem dJ29_init_4 : decode cJ29_init 4 = .ok (.aload_n 0, 1) := dk_42 (dk_at dksJ29_init_0 4 rfl rfl)
theorem dJ29_init_5 : decode cJ29_init 5 = .ok (.aload_n 2, 1) := dk_44 (dk_at dksJ29_init_0 5 rfl rfl)
theorem dJ29_init_6 : decode cJ29_init 6 = .ok (.putfield 7, 3) := dk_181 0 7 (dk_at dksJ29_init_0 6 rfl rfl)
theorem dJ29_init_9 : decode cJ29_init 9 = .ok (.aload_n 0, 1) := dk_42 (dk_at dksJ29_init_0 9 rfl rfl)
theorem dJ29_init_10 : decode cJ29_init 10 = .ok (.aload_n 3, 1) := dk_45 (dk_at dksJ29_init_0 10 rfl rfl)
theorem dJ29_init_11 : decode cJ29_init 11 = .ok (.putfield 13, 3) := dk_181 0 13 (dk_at dksJ29_init_0 11 rfl rfl)
theorem dJ29_init_14 : decode cJ29_init 14 = .ok (.aload_n 0, 1) := dk_42 (dk_at dksJ29_init_0 14 rfl rfl)
theorem dJ29_init_15 : decode cJ29_init 15 = .ok (.aload_n 1, 1) := dk_43 (dk_at dksJ29_init_0 15 rfl rfl)
theorem dJ29_init_16 : decode cJ29_init 16 = .ok (.putfield 17, 3) := dk_181 0 17 (dk_at dksJ29_init_0 16 rfl rfl)
theorem dJ29_init_19 : decode cJ29_init 19 = .ok (.return_, 1) := dk_177 (dk_at dksJ29_init_0 19 rfl rfl)
theorem q143 : (Jvm.Cond.initialized "java/util/LinkedList$Node") ∈ lw_all := lw_g (lw_at lw_m1 47 rfl) rfl
theorem q1099 : (Jvm.Cond.selects "java/util/LinkedList$Node" ({ cls := "java/lang/Object", name := "getClass", desc := "()Ljava/lang/Class;" } : Jvm.MethodName) ({ cls := "java/lang/Object", name := "getClass", desc := "()Ljava/lang/Class;" } : Jvm.MethodName)) ∈ lw_all := lw_g (lw_at lw_m5 43 rfl) rfl
theorem q1673 : (Jvm.Cond.instantiable "java/util/LinkedList$Node" (3 : Nat)) ∈ lw_all := lw_g (lw_at lw_m7 137 rfl) rfl
theorem q1675 : (Jvm.Cond.instanceMethod ({ cls := "java/util/LinkedList$Node", name := "<init>", desc := "(Ljava/util/LinkedList$Node;Ljava/lang/Object;Ljava/util/LinkedList$Node;)V" } : Jvm.MethodName)) ∈ lw_all := lw_g (lw_at lw_m7 139 rfl) rfl
theorem q1676 : (Jvm.Cond.code ({ cls := "java/util/LinkedList$Node", name := "<init>", desc := "(Ljava/util/LinkedList$Node;Ljava/lang/Object;Ljava/util/LinkedList$Node;)V" } : Jvm.MethodName) prog_73_method_1_code (4 : Nat) (Option.none : Option Jvm.ClassFile.FieldType)) ∈ lw_all := lw_g (lw_at lw_m7 140 rfl) rfl
theorem q1677 : (Jvm.Cond.methodLink "java/util/LinkedList$Node" (1 : Nat) ({ cls := "java/lang/Object", name := "<init>", desc := "()V" } : Jvm.MethodName)) ∈ lw_all := lw_g (lw_at lw_m7 141 rfl) rfl
theorem q1678 : (Jvm.Cond.fieldLink "java/util/LinkedList$Node" (7 : Nat) "java/util/LinkedList$Node" "item" "Ljava/lang/Object;") ∈ lw_all := lw_g (lw_at lw_m7 142 rfl) rfl
theorem q1681 : (Jvm.Cond.fieldLink "java/util/LinkedList$Node" (13 : Nat) "java/util/LinkedList$Node" "next" "Ljava/util/LinkedList$Node;") ∈ lw_all := lw_g (lw_at lw_m7 145 rfl) rfl
theorem q1684 : (Jvm.Cond.fieldLink "java/util/LinkedList$Node" (17 : Nat) "java/util/LinkedList$Node" "prev" "Ljava/util/LinkedList$Node;") ∈ lw_all := lw_g (lw_at lw_m7 148 rfl) rfl
theorem q1686 : (Jvm.Cond.lays "java/util/LinkedList$Node" "java/util/LinkedList$Node" "item" "Ljava/lang/Object;") ∈ lw_all := lw_g (lw_at lw_m7 150 rfl) rfl
theorem q1687 : (Jvm.Cond.soleField "java/util/LinkedList$Node" "item") ∈ lw_all := lw_g (lw_at lw_m7 151 rfl) rfl
theorem q1688 : (Jvm.Cond.lays "java/util/LinkedList$Node" "java/util/LinkedList$Node" "next" "Ljava/util/LinkedList$Node;") ∈ lw_all := lw_g (lw_at lw_m7 152 rfl) rfl
theorem q1689 : (Jvm.Cond.soleField "java/util/LinkedList$Node" "next") ∈ lw_all := lw_g (lw_at lw_m7 153 rfl) rfl
theorem q1690 : (Jvm.Cond.lays "java/util/LinkedList$Node" "java/util/LinkedList$Node" "prev" "Ljava/util/LinkedList$Node;") ∈ lw_all := lw_g (lw_at lw_m7 154 rfl) rfl
theorem q1691 : (Jvm.Cond.soleField "java/util/LinkedList$Node" "prev") ∈ lw_all := lw_g (lw_at lw_m7 155 rfl) rfl
theorem q1692 : (Jvm.Cond.superclass "java/util/LinkedList$Node" "java/lang/Object") ∈ lw_all := lw_g (lw_at lw_m7 156 rfl) rfl
theorem q3336 : (Jvm.Cond.castable "java/util/LinkedList$Node" "java/lang/Object") ∈ lw_tbl := lw_at lw_m14 120 rfl
theorem in_J29 : ∀ w ∈ wsJ290, w ∈ lw_all := lw_in wsJ290 [1686, 1688, 1690] (by decide +kernel) (by decide +kernel)
/-! java/util/LinkedList$ListItr -/
def RJ32 : String := "java/util/LinkedList$ListItr"
def TJ32 : u_T := fun k => match k with
  | 0 => ("java/util/LinkedList$ListItr", "lastReturned", "Ljava/util/LinkedList$Node;", false)
  | 1 => ("java/util/LinkedList$ListItr", "next", "Ljava/util/LinkedList$Node;", false)
  | 2 => ("java/util/LinkedList$ListItr", "nextIndex", "I", false)
  | 3 => ("java/util/LinkedList$ListItr", "expectedModCount", "I", false)
  | _ => ("java/util/LinkedList$ListItr", "this$0", "Ljava/util/LinkedList;", true)
def tyJ32 : Nat → FieldType := fun k => match k with
  | 0 => .object "java/util/LinkedList$Node"
  | 1 => .object "java/util/LinkedList$Node"
  | 2 => .int
  | 3 => .int
  | _ => .object "java/util/LinkedList"
abbrev wsJ320 : List Cond := u_ws RJ32 TJ32 5
theorem nmJ32 : ∀ a, a < 5 → ∀ b, b < 5 → a ≠ b → (TJ32 a).2.1 ≠ (TJ32 b).2.1 := by decide +kernel
theorem tyJ32_ok : ∀ k, k < 5 → parseFieldDescriptor (TJ32 k).2.2.1 = some (tyJ32 k) := by decide +kernel
abbrev cJ32_hasNext : ByteArray := prog_72_method_2_code
def yJ32_hasNext : MethodName := ⟨RJ32, "hasNext", "()Z"⟩
def dkwJ32_hasNext_0 : List UInt8 := [42, 180, 0, 33, 42, 180, 0, 1, 180, 0, 22, 162, 0, 7, 4, 167, 0, 4, 3, 172]
abbrev dktJ32_hasNext_0 : List UInt8 := dkwJ32_hasNext_0 ++ []
theorem dksJ32_hasNext_0 : cJ32_hasNext.data.toList.drop 0 = dktJ32_hasNext_0 := by decide +kernel
theorem dJ32_hasNext_0 : decode cJ32_hasNext 0 = .ok (.aload_n 0, 1) := dk_42 (dk_at dksJ32_hasNext_0 0 rfl rfl)
theorem dJ32_hasNext_1 : decode cJ32_hasNext 1 = .ok (.getfield 33, 3) := dk_180 0 33 (dk_at dksJ32_hasNext_0 1 rfl rfl)
theorem dJ32_hasNext_4 : decode cJ32_hasNext 4 = .ok (.aload_n 0, 1) := dk_42 (dk_at dksJ32_hasNext_0 4 rfl rfl)
theorem dJ32_hasNext_5 : decode cJ32_hasNext 5 = .ok (.getfield 1, 3) := dk_180 0 1 (dk_at dksJ32_hasNext_0 5 rfl rfl)
theorem dJ32_hasNext_8 : decode cJ32_hasNext 8 = .ok (.getfield 22, 3) := dk_180 0 22 (dk_at dksJ32_hasNext_0 8 rfl rfl)
theorem dJ32_hasNext_11 : decode cJ32_hasNext 11 = .ok (.if_icmp .ge 7, 3) := dk_162 0 7 (dk_at dksJ32_hasNext_0 11 rfl rfl)
theorem dJ32_hasNext_14 : decode cJ32_hasNext 14 = .ok (.iconst 1, 1) := dk_4 (dk_at dksJ32_hasNext_0 14 rfl rfl)
theorem dJ32_hasNext_15 : decode cJ32_hasNext 15 = .ok (.goto 4, 3) := dk_167 0 4 (dk_at dksJ32_hasNext_0 15 rfl rfl)
theorem dJ32_hasNext_18 : decode cJ32_hasNext 18 = .ok (.iconst 0, 1) := dk_3 (dk_at dksJ32_hasNext_0 18 rfl rfl)
theorem dJ32_hasNext_19 : decode cJ32_hasNext 19 = .ok (.ireturn, 1) := dk_172 (dk_at dksJ32_hasNext_0 19 rfl rfl)
abbrev cJ32_next : ByteArray := prog_72_method_3_code
def yJ32_next : MethodName := ⟨RJ32, "next", "()Ljava/lang/Object;"⟩
def dkwJ32_next_2 : List UInt8 := [42, 180, 0, 46, 180, 0, 52, 176]
abbrev dktJ32_next_2 : List UInt8 := dkwJ32_next_2 ++ []
def dkwJ32_next_1 : List UInt8 := [181, 0, 46, 42, 42, 180, 0, 29, 180, 0, 49, 181, 0, 29, 42, 89, 180, 0, 33, 4, 96, 181, 0, 33]
abbrev dktJ32_next_1 : List UInt8 := dkwJ32_next_1 ++ dktJ32_next_2
def dkwJ32_next_0 : List UInt8 := [42, 182, 0, 36, 42, 182, 0, 39, 154, 0, 11, 187, 0, 43, 89, 183, 0, 45, 191, 42, 42, 180, 0, 29]
abbrev dktJ32_next_0 : List UInt8 := dkwJ32_next_0 ++ dktJ32_next_1
theorem dksJ32_next_0 : cJ32_next.data.toList.drop 0 = dktJ32_next_0 := by decide +kernel
theorem dksJ32_next_1 : cJ32_next.data.toList.drop 24 = dktJ32_next_1 := dk_seg dksJ32_next_0 24 rfl rfl
theorem dksJ32_next_2 : cJ32_next.data.toList.drop 48 = dktJ32_next_2 := dk_seg dksJ32_next_1 24 rfl rfl
theorem dJ32_next_0 : decode cJ32_next 0 = .ok (.aload_n 0, 1) := dk_42 (dk_at dksJ32_next_0 0 rfl rfl)
theorem dJ32_next_1 : decode cJ32_next 1 = .ok (.invokevirtual 36, 3) := dk_182 0 36 (dk_at dksJ32_next_0 1 rfl rfl)
theorem dJ32_next_4 : decode cJ32_next 4 = .ok (.aload_n 0, 1) := dk_42 (dk_at dksJ32_next_0 4 rfl rfl)
theorem dJ32_next_5 : decode cJ32_next 5 = .ok (.invokevirtual 39, 3) := dk_182 0 39 (dk_at dksJ32_next_0 5 rfl rfl)
theorem dJ32_next_8 : decode cJ32_next 8 = .ok (.ifCond .ne 11, 3) := dk_154 0 11 (dk_at dksJ32_next_0 8 rfl rfl)
theorem dJ32_next_11 : decode cJ32_next 11 = .ok (.new 43, 3) := dk_187 0 43 (dk_at dksJ32_next_0 11 rfl rfl)
theorem dJ32_next_14 : decode cJ32_next 14 = .ok (.dup, 1) := dk_89 (dk_at dksJ32_next_0 14 rfl rfl)
theorem dJ32_next_15 : decode cJ32_next 15 = .ok (.invokespecial 45, 3) := dk_183 0 45 (dk_at dksJ32_next_0 15 rfl rfl)
theorem dJ32_next_18 : decode cJ32_next 18 = .ok (.athrow, 1) := dk_191 (dk_at dksJ32_next_0 18 rfl rfl)
theorem dJ32_next_19 : decode cJ32_next 19 = .ok (.aload_n 0, 1) := dk_42 (dk_at dksJ32_next_0 19 rfl rfl)
theorem dJ32_next_20 : decode cJ32_next 20 = .ok (.aload_n 0, 1) := dk_42 (dk_at dksJ32_next_0 20 rfl rfl)
theorem dJ32_next_21 : decode cJ32_next 21 = .ok (.getfield 29, 3) := dk_180 0 29 (dk_at dksJ32_next_0 21 rfl rfl)
theorem dJ32_next_24 : decode cJ32_next 24 = .ok (.putfield 46, 3) := dk_181 0 46 (dk_at dksJ32_next_1 0 rfl rfl)
theorem dJ32_next_27 : decode cJ32_next 27 = .ok (.aload_n 0, 1) := dk_42 (dk_at dksJ32_next_1 3 rfl rfl)
theorem dJ32_next_28 : decode cJ32_next 28 = .ok (.aload_n 0, 1) := dk_42 (dk_at dksJ32_next_1 4 rfl rfl)
theorem dJ32_next_29 : decode cJ32_next 29 = .ok (.getfield 29, 3) := dk_180 0 29 (dk_at dksJ32_next_1 5 rfl rfl)
theorem dJ32_next_32 : decode cJ32_next 32 = .ok (.getfield 49, 3) := dk_180 0 49 (dk_at dksJ32_next_1 8 rfl rfl)
theorem dJ32_next_35 : decode cJ32_next 35 = .ok (.putfield 29, 3) := dk_181 0 29 (dk_at dksJ32_next_1 11 rfl rfl)
theorem dJ32_next_38 : decode cJ32_next 38 = .ok (.aload_n 0, 1) := dk_42 (dk_at dksJ32_next_1 14 rfl rfl)
theorem dJ32_next_39 : decode cJ32_next 39 = .ok (.dup, 1) := dk_89 (dk_at dksJ32_next_1 15 rfl rfl)
theorem dJ32_next_40 : decode cJ32_next 40 = .ok (.getfield 33, 3) := dk_180 0 33 (dk_at dksJ32_next_1 16 rfl rfl)
theorem dJ32_next_43 : decode cJ32_next 43 = .ok (.iconst 1, 1) := dk_4 (dk_at dksJ32_next_1 19 rfl rfl)
theorem dJ32_next_44 : decode cJ32_next 44 = .ok (.iadd, 1) := dk_96 (dk_at dksJ32_next_1 20 rfl rfl)
theorem dJ32_next_45 : decode cJ32_next 45 = .ok (.putfield 33, 3) := dk_181 0 33 (dk_at dksJ32_next_1 21 rfl rfl)
theorem dJ32_next_48 : decode cJ32_next 48 = .ok (.aload_n 0, 1) := dk_42 (dk_at dksJ32_next_2 0 rfl rfl)
theorem dJ32_next_49 : decode cJ32_next 49 = .ok (.getfield 46, 3) := dk_180 0 46 (dk_at dksJ32_next_2 1 rfl rfl)
theorem dJ32_next_52 : decode cJ32_next 52 = .ok (.getfield 52, 3) := dk_180 0 52 (dk_at dksJ32_next_2 4 rfl rfl)
theorem dJ32_next_55 : decode cJ32_next 55 = .ok (.areturn, 1) := dk_176 (dk_at dksJ32_next_2 7 rfl rfl)
abbrev cJ32_checkForComodification : ByteArray := prog_72_method_12_code
def yJ32_checkForComodification : MethodName := ⟨RJ32, "checkForComodification", "()V"⟩
def dkwJ32_checkForComodification_0 : List UInt8 := [42, 180, 0, 1, 180, 0, 13, 42, 180, 0, 19, 159, 0, 11, 187, 0, 91, 89, 183, 0, 93, 191, 177]
abbrev dktJ32_checkForComodification_0 : List UInt8 := dkwJ32_checkForComodification_0 ++ []
theorem dksJ32_checkForComodification_0 : cJ32_checkForComodification.data.toList.drop 0 = dktJ32_checkForComodification_0 := by decide +kernel
theorem dJ32_checkForComodification_0 : decode cJ32_checkForComodification 0 = .ok (.aload_n 0, 1) := dk_42 (dk_at dksJ32_checkForComodification_0 0 rfl rfl)
theorem dJ32_checkForComodification_1 : decode cJ32_checkForComodification 1 = .ok (.getfield 1, 3) := dk_180 0 1 (dk_at dksJ32_checkForComodification_0 1 rfl rfl)
theorem dJ32_checkForComodification_4 : decode cJ32_checkForComodification 4 = .ok (.getfield 13, 3) := dk_180 0 13 (dk_at dksJ32_checkForComodification_0 4 rfl rfl)
theorem dJ32_checkForComodification_7 : decode cJ32_checkForComodification 7 = .ok (.aload_n 0, 1) := dk_42 (dk_at dksJ32_checkForComodification_0 7 rfl rfl)
theorem dJ32_checkForComodification_8 : decode cJ32_checkForComodification 8 = .ok (.getfield 19, 3) := dk_180 0 19 (dk_at dksJ32_checkForComodification_0 8 rfl rfl)
theorem dJ32_checkForComodification_11 : decode cJ32_checkForComodification 11 = .ok (.if_icmp .eq 11, 3) := dk_159 0 11 (dk_at dksJ32_checkForComodification_0 11 rfl rfl)
theorem dJ32_checkForComodification_14 : decode cJ32_checkForComodification 14 = .ok (.new 91, 3) := dk_187 0 91 (dk_at dksJ32_checkForComodification_0 14 rfl rfl)
theorem dJ32_checkForComodification_17 : decode cJ32_checkForComodification 17 = .ok (.dup, 1) := dk_89 (dk_at dksJ32_checkForComodification_0 17 rfl rfl)
theorem dJ32_checkForComodification_18 : decode cJ32_checkForComodification 18 = .ok (.invokespecial 93, 3) := dk_183 0 93 (dk_at dksJ32_checkForComodification_0 18 rfl rfl)
theorem dJ32_checkForComodification_21 : decode cJ32_checkForComodification 21 = .ok (.athrow, 1) := dk_191 (dk_at dksJ32_checkForComodification_0 21 rfl rfl)
theorem dJ32_checkForComodification_22 : decode cJ32_checkForComodification 22 = .ok (.return_, 1) := dk_177 (dk_at dksJ32_checkForComodification_0 22 rfl rfl)
abbrev cJ32_init : ByteArray := prog_72_method_1_code
def yJ32_init : MethodName := ⟨RJ32, "<init>", "(Ljava/util/LinkedList;I)V"⟩
def dkwJ32_init_1 : List UInt8 := [180, 0, 22, 160, 0, 7, 1, 167, 0, 8, 43, 28, 182, 0, 25, 181, 0, 29, 42, 28, 181, 0, 33, 177]
abbrev dktJ32_init_1 : List UInt8 := dkwJ32_init_1 ++ []
def dkwJ32_init_0 : List UInt8 := [42, 43, 181, 0, 1, 42, 183, 0, 7, 42, 42, 180, 0, 1, 180, 0, 13, 181, 0, 19, 42, 28, 43]
abbrev dktJ32_init_0 : List UInt8 := dkwJ32_init_0 ++ dktJ32_init_1
theorem dksJ32_init_0 : cJ32_init.data.toList.drop 0 = dktJ32_init_0 := by decide +kernel
theorem dksJ32_init_1 : cJ32_init.data.toList.drop 23 = dktJ32_init_1 := dk_seg dksJ32_init_0 23 rfl rfl
theorem dJ32_init_0 : decode cJ32_init 0 = .ok (.aload_n 0, 1) := dk_42 (dk_at dksJ32_init_0 0 rfl rfl)
theorem dJ32_init_1 : decode cJ32_init 1 = .ok (.aload_n 1, 1) := dk_43 (dk_at dksJ32_init_0 1 rfl rfl)
theorem dJ32_init_2 : decode cJ32_init 2 = .ok (.putfield 1, 3) := dk_181 0 1 (dk_at dksJ32_init_0 2 rfl rfl)
theorem dJ32_init_5 : decode cJ32_init 5 = .ok (.aload_n 0, 1) := dk_42 (dk_at dksJ32_init_0 5 rfl rfl)
theorem dJ32_init_6 : decode cJ32_init 6 = .ok (.invokespecial 7, 3) := dk_183 0 7 (dk_at dksJ32_init_0 6 rfl rfl)
theorem dJ32_init_9 : decode cJ32_init 9 = .ok (.aload_n 0, 1) := dk_42 (dk_at dksJ32_init_0 9 rfl rfl)
theorem dJ32_init_10 : decode cJ32_init 10 = .ok (.aload_n 0, 1) := dk_42 (dk_at dksJ32_init_0 10 rfl rfl)
theorem dJ32_init_11 : decode cJ32_init 11 = .ok (.getfield 1, 3) := dk_180 0 1 (dk_at dksJ32_init_0 11 rfl rfl)
theorem dJ32_init_14 : decode cJ32_init 14 = .ok (.getfield 13, 3) := dk_180 0 13 (dk_at dksJ32_init_0 14 rfl rfl)
theorem dJ32_init_17 : decode cJ32_init 17 = .ok (.putfield 19, 3) := dk_181 0 19 (dk_at dksJ32_init_0 17 rfl rfl)
theorem dJ32_init_20 : decode cJ32_init 20 = .ok (.aload_n 0, 1) := dk_42 (dk_at dksJ32_init_0 20 rfl rfl)
theorem dJ32_init_21 : decode cJ32_init 21 = .ok (.iload_n 2, 1) := dk_28 (dk_at dksJ32_init_0 21 rfl rfl)
theorem dJ32_init_22 : decode cJ32_init 22 = .ok (.aload_n 1, 1) := dk_43 (dk_at dksJ32_init_0 22 rfl rfl)
theorem dJ32_init_23 : decode cJ32_init 23 = .ok (.getfield 22, 3) := dk_180 0 22 (dk_at dksJ32_init_1 0 rfl rfl)
theorem dJ32_init_26 : decode cJ32_init 26 = .ok (.if_icmp .ne 7, 3) := dk_160 0 7 (dk_at dksJ32_init_1 3 rfl rfl)
theorem dJ32_init_29 : decode cJ32_init 29 = .ok (.aconst_null, 1) := dk_1 (dk_at dksJ32_init_1 6 rfl rfl)
theorem dJ32_init_30 : decode cJ32_init 30 = .ok (.goto 8, 3) := dk_167 0 8 (dk_at dksJ32_init_1 7 rfl rfl)
theorem dJ32_init_33 : decode cJ32_init 33 = .ok (.aload_n 1, 1) := dk_43 (dk_at dksJ32_init_1 10 rfl rfl)
theorem dJ32_init_34 : decode cJ32_init 34 = .ok (.iload_n 2, 1) := dk_28 (dk_at dksJ32_init_1 11 rfl rfl)
theorem dJ32_init_35 : decode cJ32_init 35 = .ok (.invokevirtual 25, 3) := dk_182 0 25 (dk_at dksJ32_init_1 12 rfl rfl)
theorem dJ32_init_38 : decode cJ32_init 38 = .ok (.putfield 29, 3) := dk_181 0 29 (dk_at dksJ32_init_1 15 rfl rfl)
theorem dJ32_init_41 : decode cJ32_init 41 = .ok (.aload_n 0, 1) := dk_42 (dk_at dksJ32_init_1 18 rfl rfl)
theorem dJ32_init_42 : decode cJ32_init 42 = .ok (.iload_n 2, 1) := dk_28 (dk_at dksJ32_init_1 19 rfl rfl)
theorem dJ32_init_43 : decode cJ32_init 43 = .ok (.putfield 33, 3) := dk_181 0 33 (dk_at dksJ32_init_1 20 rfl rfl)
theorem dJ32_init_46 : decode cJ32_init 46 = .ok (.return_, 1) := dk_177 (dk_at dksJ32_init_1 23 rfl rfl)
abbrev cJ32_remove : ByteArray := prog_72_method_8_code
def yJ32_remove : MethodName := ⟨RJ32, "remove", "()V"⟩
def dkwJ32_remove_3 : List UInt8 := [181, 0, 46, 42, 89, 180, 0, 19, 4, 96, 181, 0, 19, 177]
abbrev dktJ32_remove_3 : List UInt8 := dkwJ32_remove_3 ++ []
def dkwJ32_remove_2 : List UInt8 := [166, 0, 11, 42, 43, 181, 0, 29, 167, 0, 13, 42, 89, 180, 0, 33, 4, 100, 181, 0, 33, 42, 1]
abbrev dktJ32_remove_2 : List UInt8 := dkwJ32_remove_2 ++ dktJ32_remove_3
def dkwJ32_remove_1 : List UInt8 := [180, 0, 49, 76, 42, 180, 0, 1, 42, 180, 0, 46, 182, 0, 68, 87, 42, 180, 0, 29, 42, 180, 0, 46]
abbrev dktJ32_remove_1 : List UInt8 := dkwJ32_remove_1 ++ dktJ32_remove_2
def dkwJ32_remove_0 : List UInt8 := [42, 182, 0, 36, 42, 180, 0, 46, 199, 0, 11, 187, 0, 65, 89, 183, 0, 67, 191, 42, 180, 0, 46]
abbrev dktJ32_remove_0 : List UInt8 := dkwJ32_remove_0 ++ dktJ32_remove_1
theorem dksJ32_remove_0 : cJ32_remove.data.toList.drop 0 = dktJ32_remove_0 := by decide +kernel
theorem dksJ32_remove_1 : cJ32_remove.data.toList.drop 23 = dktJ32_remove_1 := dk_seg dksJ32_remove_0 23 rfl rfl
theorem dksJ32_remove_2 : cJ32_remove.data.toList.drop 47 = dktJ32_remove_2 := dk_seg dksJ32_remove_1 24 rfl rfl
theorem dksJ32_remove_3 : cJ32_remove.data.toList.drop 70 = dktJ32_remove_3 := dk_seg dksJ32_remove_2 23 rfl rfl
theorem dJ32_remove_0 : decode cJ32_remove 0 = .ok (.aload_n 0, 1) := dk_42 (dk_at dksJ32_remove_0 0 rfl rfl)
theorem dJ32_remove_1 : decode cJ32_remove 1 = .ok (.invokevirtual 36, 3) := dk_182 0 36 (dk_at dksJ32_remove_0 1 rfl rfl)
theorem dJ32_remove_4 : decode cJ32_remove 4 = .ok (.aload_n 0, 1) := dk_42 (dk_at dksJ32_remove_0 4 rfl rfl)
theorem dJ32_remove_5 : decode cJ32_remove 5 = .ok (.getfield 46, 3) := dk_180 0 46 (dk_at dksJ32_remove_0 5 rfl rfl)
theorem dJ32_remove_8 : decode cJ32_remove 8 = .ok (.ifnonnull 11, 3) := dk_199 0 11 (dk_at dksJ32_remove_0 8 rfl rfl)
theorem dJ32_remove_11 : decode cJ32_remove 11 = .ok (.new 65, 3) := dk_187 0 65 (dk_at dksJ32_remove_0 11 rfl rfl)
theorem dJ32_remove_14 : decode cJ32_remove 14 = .ok (.dup, 1) := dk_89 (dk_at dksJ32_remove_0 14 rfl rfl)
theorem dJ32_remove_15 : decode cJ32_remove 15 = .ok (.invokespecial 67, 3) := dk_183 0 67 (dk_at dksJ32_remove_0 15 rfl rfl)
theorem dJ32_remove_18 : decode cJ32_remove 18 = .ok (.athrow, 1) := dk_191 (dk_at dksJ32_remove_0 18 rfl rfl)
theorem dJ32_remove_19 : decode cJ32_remove 19 = .ok (.aload_n 0, 1) := dk_42 (dk_at dksJ32_remove_0 19 rfl rfl)
theorem dJ32_remove_20 : decode cJ32_remove 20 = .ok (.getfield 46, 3) := dk_180 0 46 (dk_at dksJ32_remove_0 20 rfl rfl)
theorem dJ32_remove_23 : decode cJ32_remove 23 = .ok (.getfield 49, 3) := dk_180 0 49 (dk_at dksJ32_remove_1 0 rfl rfl)
theorem dJ32_remove_26 : decode cJ32_remove 26 = .ok (.astore_n 1, 1) := dk_76 (dk_at dksJ32_remove_1 3 rfl rfl)
theorem dJ32_remove_27 : decode cJ32_remove 27 = .ok (.aload_n 0, 1) := dk_42 (dk_at dksJ32_remove_1 4 rfl rfl)
theorem dJ32_remove_28 : decode cJ32_remove 28 = .ok (.getfield 1, 3) := dk_180 0 1 (dk_at dksJ32_remove_1 5 rfl rfl)
theorem dJ32_remove_31 : decode cJ32_remove 31 = .ok (.aload_n 0, 1) := dk_42 (dk_at dksJ32_remove_1 8 rfl rfl)
theorem dJ32_remove_32 : decode cJ32_remove 32 = .ok (.getfield 46, 3) := dk_180 0 46 (dk_at dksJ32_remove_1 9 rfl rfl)
theorem dJ32_remove_35 : decode cJ32_remove 35 = .ok (.invokevirtual 68, 3) := dk_182 0 68 (dk_at dksJ32_remove_1 12 rfl rfl)
theorem dJ32_remove_38 : decode cJ32_remove 38 = .ok (.pop, 1) := dk_87 (dk_at dksJ32_remove_1 15 rfl rfl)
theorem dJ32_remove_39 : decode cJ32_remove 39 = .ok (.aload_n 0, 1) := dk_42 (dk_at dksJ32_remove_1 16 rfl rfl)
theorem dJ32_remove_40 : decode cJ32_remove 40 = .ok (.getfield 29, 3) := dk_180 0 29 (dk_at dksJ32_remove_1 17 rfl rfl)
theorem dJ32_remove_43 : decode cJ32_remove 43 = .ok (.aload_n 0, 1) := dk_42 (dk_at dksJ32_remove_1 20 rfl rfl)
theorem dJ32_remove_44 : decode cJ32_remove 44 = .ok (.getfield 46, 3) := dk_180 0 46 (dk_at dksJ32_remove_1 21 rfl rfl)
theorem dJ32_remove_47 : decode cJ32_remove 47 = .ok (.if_acmp .ne 11, 3) := dk_166 0 11 (dk_at dksJ32_remove_2 0 rfl rfl)
theorem dJ32_remove_50 : decode cJ32_remove 50 = .ok (.aload_n 0, 1) := dk_42 (dk_at dksJ32_remove_2 3 rfl rfl)
theorem dJ32_remove_51 : decode cJ32_remove 51 = .ok (.aload_n 1, 1) := dk_43 (dk_at dksJ32_remove_2 4 rfl rfl)
theorem dJ32_remove_52 : decode cJ32_remove 52 = .ok (.putfield 29, 3) := dk_181 0 29 (dk_at dksJ32_remove_2 5 rfl rfl)
theorem dJ32_remove_55 : decode cJ32_remove 55 = .ok (.goto 13, 3) := dk_167 0 13 (dk_at dksJ32_remove_2 8 rfl rfl)
theorem dJ32_remove_58 : decode cJ32_remove 58 = .ok (.aload_n 0, 1) := dk_42 (dk_at dksJ32_remove_2 11 rfl rfl)
theorem dJ32_remove_59 : decode cJ32_remove 59 = .ok (.dup, 1) := dk_89 (dk_at dksJ32_remove_2 12 rfl rfl)
theorem dJ32_remove_60 : decode cJ32_remove 60 = .ok (.getfield 33, 3) := dk_180 0 33 (dk_at dksJ32_remove_2 13 rfl rfl)
theorem dJ32_remove_63 : decode cJ32_remove 63 = .ok (.iconst 1, 1) := dk_4 (dk_at dksJ32_remove_2 16 rfl rfl)
theorem dJ32_remove_64 : decode cJ32_remove 64 = .ok (.isub, 1) := dk_100 (dk_at dksJ32_remove_2 17 rfl rfl)
theorem dJ32_remove_65 : decode cJ32_remove 65 = .ok (.putfield 33, 3) := dk_181 0 33 (dk_at dksJ32_remove_2 18 rfl rfl)
theorem dJ32_remove_68 : decode cJ32_remove 68 = .ok (.aload_n 0, 1) := dk_42 (dk_at dksJ32_remove_2 21 rfl rfl)
theorem dJ32_remove_69 : decode cJ32_remove 69 = .ok (.aconst_null, 1) := dk_1 (dk_at dksJ32_remove_2 22 rfl rfl)
theorem dJ32_remove_70 : decode cJ32_remove 70 = .ok (.putfield 46, 3) := dk_181 0 46 (dk_at dksJ32_remove_3 0 rfl rfl)
theorem dJ32_remove_73 : decode cJ32_remove 73 = .ok (.aload_n 0, 1) := dk_42 (dk_at dksJ32_remove_3 3 rfl rfl)
theorem dJ32_remove_74 : decode cJ32_remove 74 = .ok (.dup, 1) := dk_89 (dk_at dksJ32_remove_3 4 rfl rfl)
theorem dJ32_remove_75 : decode cJ32_remove 75 = .ok (.getfield 19, 3) := dk_180 0 19 (dk_at dksJ32_remove_3 5 rfl rfl)
theorem dJ32_remove_78 : decode cJ32_remove 78 = .ok (.iconst 1, 1) := dk_4 (dk_at dksJ32_remove_3 8 rfl rfl)
theorem dJ32_remove_79 : decode cJ32_remove 79 = .ok (.iadd, 1) := dk_96 (dk_at dksJ32_remove_3 9 rfl rfl)
theorem dJ32_remove_80 : decode cJ32_remove 80 = .ok (.putfield 19, 3) := dk_181 0 19 (dk_at dksJ32_remove_3 10 rfl rfl)
theorem dJ32_remove_83 : decode cJ32_remove 83 = .ok (.return_, 1) := dk_177 (dk_at dksJ32_remove_3 13 rfl rfl)
theorem q152 : (Jvm.Cond.initialized "java/util/LinkedList$ListItr") ∈ lw_all := lw_g (lw_at lw_m1 56 rfl) rfl
theorem q196 : (Jvm.Cond.fieldLink "java/util/LinkedList$ListItr" (13 : Nat) "java/util/LinkedList" "modCount" "I") ∈ lw_all := lw_g (lw_at lw_m1 100 rfl) rfl
theorem q220 : (Jvm.Cond.fieldLink "java/util/LinkedList$ListItr" (22 : Nat) "java/util/LinkedList" "size" "I") ∈ lw_all := lw_g (lw_at lw_m1 124 rfl) rfl
theorem q1098 : (Jvm.Cond.selects "java/util/LinkedList$ListItr" ({ cls := "java/lang/Object", name := "getClass", desc := "()Ljava/lang/Class;" } : Jvm.MethodName) ({ cls := "java/lang/Object", name := "getClass", desc := "()Ljava/lang/Class;" } : Jvm.MethodName)) ∈ lw_all := lw_g (lw_at lw_m5 42 rfl) rfl
theorem q1347 : (Jvm.Cond.castable "java/util/LinkedList$ListItr" "java/util/Iterator") ∈ lw_tbl := lw_at lw_m6 51 rfl
theorem q1348 : (Jvm.Cond.selects "java/util/LinkedList$ListItr" ({ cls := "java/util/Iterator", name := "hasNext", desc := "()Z" } : Jvm.MethodName) ({ cls := "java/util/LinkedList$ListItr", name := "hasNext", desc := "()Z" } : Jvm.MethodName)) ∈ lw_all := lw_g (lw_at lw_m6 52 rfl) rfl
theorem q1349 : (Jvm.Cond.unhidden "java/util/LinkedList$ListItr" "hasNext" "()Z") ∈ lw_tbl := lw_at lw_m6 53 rfl
theorem q1350 : (Jvm.Cond.instanceMethod ({ cls := "java/util/LinkedList$ListItr", name := "hasNext", desc := "()Z" } : Jvm.MethodName)) ∈ lw_all := lw_g (lw_at lw_m6 54 rfl) rfl
theorem q1351 : (Jvm.Cond.publicMethod ({ cls := "java/util/LinkedList$ListItr", name := "hasNext", desc := "()Z" } : Jvm.MethodName)) ∈ lw_tbl := lw_at lw_m6 55 rfl
theorem q1352 : (Jvm.Cond.code ({ cls := "java/util/LinkedList$ListItr", name := "hasNext", desc := "()Z" } : Jvm.MethodName) prog_72_method_2_code (1 : Nat) (Option.some Jvm.ClassFile.FieldType.boolean)) ∈ lw_all := lw_g (lw_at lw_m6 56 rfl) rfl
theorem q1485 : (Jvm.Cond.selects "java/util/LinkedList$ListItr" ({ cls := "java/util/Iterator", name := "next", desc := "()Ljava/lang/Object;" } : Jvm.MethodName) ({ cls := "java/util/LinkedList$ListItr", name := "next", desc := "()Ljava/lang/Object;" } : Jvm.MethodName)) ∈ lw_all := lw_g (lw_at lw_m6 189 rfl) rfl
theorem q1486 : (Jvm.Cond.unhidden "java/util/LinkedList$ListItr" "next" "()Ljava/lang/Object;") ∈ lw_tbl := lw_at lw_m6 190 rfl
theorem q1487 : (Jvm.Cond.instanceMethod ({ cls := "java/util/LinkedList$ListItr", name := "next", desc := "()Ljava/lang/Object;" } : Jvm.MethodName)) ∈ lw_all := lw_g (lw_at lw_m6 191 rfl) rfl
theorem q1488 : (Jvm.Cond.publicMethod ({ cls := "java/util/LinkedList$ListItr", name := "next", desc := "()Ljava/lang/Object;" } : Jvm.MethodName)) ∈ lw_tbl := lw_at lw_m6 192 rfl
theorem q1489 : (Jvm.Cond.code ({ cls := "java/util/LinkedList$ListItr", name := "next", desc := "()Ljava/lang/Object;" } : Jvm.MethodName) prog_72_method_3_code (1 : Nat) (Option.some (Jvm.ClassFile.FieldType.object "java/lang/Object"))) ∈ lw_all := lw_g (lw_at lw_m6 193 rfl) rfl
theorem q1490 : (Jvm.Cond.methodLink "java/util/LinkedList$ListItr" (36 : Nat) ({ cls := "java/util/LinkedList$ListItr", name := "checkForComodification", desc := "()V" } : Jvm.MethodName)) ∈ lw_all := lw_g (lw_at lw_m6 194 rfl) rfl
theorem q1491 : (Jvm.Cond.instanceMethod ({ cls := "java/util/LinkedList$ListItr", name := "checkForComodification", desc := "()V" } : Jvm.MethodName)) ∈ lw_all := lw_g (lw_at lw_m6 195 rfl) rfl
theorem q1492 : (Jvm.Cond.selects "java/util/LinkedList$ListItr" ({ cls := "java/util/LinkedList$ListItr", name := "checkForComodification", desc := "()V" } : Jvm.MethodName) ({ cls := "java/util/LinkedList$ListItr", name := "checkForComodification", desc := "()V" } : Jvm.MethodName)) ∈ lw_all := lw_g (lw_at lw_m6 196 rfl) rfl
theorem q1493 : (Jvm.Cond.code ({ cls := "java/util/LinkedList$ListItr", name := "checkForComodification", desc := "()V" } : Jvm.MethodName) prog_72_method_12_code (1 : Nat) (Option.none : Option Jvm.ClassFile.FieldType)) ∈ lw_all := lw_g (lw_at lw_m6 197 rfl) rfl
theorem q1494 : (Jvm.Cond.methodLink "java/util/LinkedList$ListItr" (39 : Nat) ({ cls := "java/util/LinkedList$ListItr", name := "hasNext", desc := "()Z" } : Jvm.MethodName)) ∈ lw_all := lw_g (lw_at lw_m6 198 rfl) rfl
theorem q1679 : (Jvm.Cond.fieldLink "java/util/LinkedList$ListItr" (52 : Nat) "java/util/LinkedList$Node" "item" "Ljava/lang/Object;") ∈ lw_all := lw_g (lw_at lw_m7 143 rfl) rfl
theorem q1682 : (Jvm.Cond.fieldLink "java/util/LinkedList$ListItr" (49 : Nat) "java/util/LinkedList$Node" "next" "Ljava/util/LinkedList$Node;") ∈ lw_all := lw_g (lw_at lw_m7 146 rfl) rfl
theorem q2036 : (Jvm.Cond.instantiable "java/util/LinkedList$ListItr" (5 : Nat)) ∈ lw_all := lw_g (lw_at lw_m9 20 rfl) rfl
theorem q2038 : (Jvm.Cond.instanceMethod ({ cls := "java/util/LinkedList$ListItr", name := "<init>", desc := "(Ljava/util/LinkedList;I)V" } : Jvm.MethodName)) ∈ lw_all := lw_g (lw_at lw_m9 22 rfl) rfl
theorem q2039 : (Jvm.Cond.code ({ cls := "java/util/LinkedList$ListItr", name := "<init>", desc := "(Ljava/util/LinkedList;I)V" } : Jvm.MethodName) prog_72_method_1_code (3 : Nat) (Option.none : Option Jvm.ClassFile.FieldType)) ∈ lw_all := lw_g (lw_at lw_m9 23 rfl) rfl
theorem q2040 : (Jvm.Cond.methodLink "java/util/LinkedList$ListItr" (7 : Nat) ({ cls := "java/lang/Object", name := "<init>", desc := "()V" } : Jvm.MethodName)) ∈ lw_all := lw_g (lw_at lw_m9 24 rfl) rfl
theorem q2041 : (Jvm.Cond.methodLink "java/util/LinkedList$ListItr" (25 : Nat) ({ cls := "java/util/LinkedList", name := "node", desc := "(I)Ljava/util/LinkedList$Node;" } : Jvm.MethodName)) ∈ lw_all := lw_g (lw_at lw_m9 25 rfl) rfl
theorem q2042 : (Jvm.Cond.fieldLink "java/util/LinkedList$ListItr" (46 : Nat) "java/util/LinkedList$ListItr" "lastReturned" "Ljava/util/LinkedList$Node;") ∈ lw_all := lw_g (lw_at lw_m9 26 rfl) rfl
theorem q2043 : (Jvm.Cond.fieldLink "java/util/LinkedList$ListItr" (29 : Nat) "java/util/LinkedList$ListItr" "next" "Ljava/util/LinkedList$Node;") ∈ lw_all := lw_g (lw_at lw_m9 27 rfl) rfl
theorem q2044 : (Jvm.Cond.fieldLink "java/util/LinkedList$ListItr" (33 : Nat) "java/util/LinkedList$ListItr" "nextIndex" "I") ∈ lw_all := lw_g (lw_at lw_m9 28 rfl) rfl
theorem q2045 : (Jvm.Cond.fieldLink "java/util/LinkedList$ListItr" (19 : Nat) "java/util/LinkedList$ListItr" "expectedModCount" "I") ∈ lw_all := lw_g (lw_at lw_m9 29 rfl) rfl
theorem q2046 : (Jvm.Cond.fieldLink "java/util/LinkedList$ListItr" (1 : Nat) "java/util/LinkedList$ListItr" "this$0" "Ljava/util/LinkedList;") ∈ lw_all := lw_g (lw_at lw_m9 30 rfl) rfl
theorem q2047 : (Jvm.Cond.lays "java/util/LinkedList$ListItr" "java/util/LinkedList$ListItr" "lastReturned" "Ljava/util/LinkedList$Node;") ∈ lw_all := lw_g (lw_at lw_m9 31 rfl) rfl
theorem q2048 : (Jvm.Cond.soleField "java/util/LinkedList$ListItr" "lastReturned") ∈ lw_all := lw_g (lw_at lw_m9 32 rfl) rfl
theorem q2049 : (Jvm.Cond.lays "java/util/LinkedList$ListItr" "java/util/LinkedList$ListItr" "next" "Ljava/util/LinkedList$Node;") ∈ lw_all := lw_g (lw_at lw_m9 33 rfl) rfl
theorem q2050 : (Jvm.Cond.soleField "java/util/LinkedList$ListItr" "next") ∈ lw_all := lw_g (lw_at lw_m9 34 rfl) rfl
theorem q2051 : (Jvm.Cond.lays "java/util/LinkedList$ListItr" "java/util/LinkedList$ListItr" "nextIndex" "I") ∈ lw_all := lw_g (lw_at lw_m9 35 rfl) rfl
theorem q2052 : (Jvm.Cond.soleField "java/util/LinkedList$ListItr" "nextIndex") ∈ lw_all := lw_g (lw_at lw_m9 36 rfl) rfl
theorem q2053 : (Jvm.Cond.lays "java/util/LinkedList$ListItr" "java/util/LinkedList$ListItr" "expectedModCount" "I") ∈ lw_all := lw_g (lw_at lw_m9 37 rfl) rfl
theorem q2054 : (Jvm.Cond.soleField "java/util/LinkedList$ListItr" "expectedModCount") ∈ lw_all := lw_g (lw_at lw_m9 38 rfl) rfl
theorem q2055 : (Jvm.Cond.laysFinal "java/util/LinkedList$ListItr" "java/util/LinkedList$ListItr" "this$0" "Ljava/util/LinkedList;") ∈ lw_all := lw_g (lw_at lw_m9 39 rfl) rfl
theorem q2056 : (Jvm.Cond.soleField "java/util/LinkedList$ListItr" "this$0") ∈ lw_all := lw_g (lw_at lw_m9 40 rfl) rfl
theorem q2057 : (Jvm.Cond.superclass "java/util/LinkedList$ListItr" "java/lang/Object") ∈ lw_all := lw_g (lw_at lw_m9 41 rfl) rfl
theorem q2139 : (Jvm.Cond.selects "java/util/LinkedList$ListItr" ({ cls := "java/util/Iterator", name := "remove", desc := "()V" } : Jvm.MethodName) ({ cls := "java/util/LinkedList$ListItr", name := "remove", desc := "()V" } : Jvm.MethodName)) ∈ lw_all := lw_g (lw_at lw_m9 123 rfl) rfl
theorem q2140 : (Jvm.Cond.unhidden "java/util/LinkedList$ListItr" "remove" "()V") ∈ lw_tbl := lw_at lw_m9 124 rfl
theorem q2141 : (Jvm.Cond.instanceMethod ({ cls := "java/util/LinkedList$ListItr", name := "remove", desc := "()V" } : Jvm.MethodName)) ∈ lw_all := lw_g (lw_at lw_m9 125 rfl) rfl
theorem q2142 : (Jvm.Cond.publicMethod ({ cls := "java/util/LinkedList$ListItr", name := "remove", desc := "()V" } : Jvm.MethodName)) ∈ lw_tbl := lw_at lw_m9 126 rfl
theorem q2143 : (Jvm.Cond.code ({ cls := "java/util/LinkedList$ListItr", name := "remove", desc := "()V" } : Jvm.MethodName) prog_72_method_8_code (2 : Nat) (Option.none : Option Jvm.ClassFile.FieldType)) ∈ lw_all := lw_g (lw_at lw_m9 127 rfl) rfl
theorem q2144 : (Jvm.Cond.methodLink "java/util/LinkedList$ListItr" (68 : Nat) ({ cls := "java/util/LinkedList", name := "unlink", desc := "(Ljava/util/LinkedList$Node;)Ljava/lang/Object;" } : Jvm.MethodName)) ∈ lw_all := lw_g (lw_at lw_m9 128 rfl) rfl
theorem q3299 : (Jvm.Cond.selects "java/util/LinkedList$ListItr" ({ cls := "java/util/LinkedList$ListItr", name := "hasNext", desc := "()Z" } : Jvm.MethodName) ({ cls := "java/util/LinkedList$ListItr", name := "hasNext", desc := "()Z" } : Jvm.MethodName)) ∈ lw_all := lw_g (lw_at lw_m14 83 rfl) rfl
theorem q3343 : (Jvm.Cond.castable "java/util/LinkedList$ListItr" "java/lang/Object") ∈ lw_tbl := lw_at lw_m14 127 rfl
theorem in_J32 : ∀ w ∈ wsJ320, w ∈ lw_all := lw_in wsJ320 [2047, 2049, 2051, 2053, 2055] (by decide +kernel) (by decide +kernel)
/-! java/util/AbstractQueue -/
def RJ35 : String := "java/util/AbstractQueue"
abbrev cJ35_init : ByteArray := prog_58_method_1_code
def yJ35_init : MethodName := ⟨RJ35, "<init>", "()V"⟩
theorem dJ35_init_0 : decode cJ35_init 0 = .ok (.aload_n 0, 1) := by decide +kernel
theorem dJ35_init_1 : decode cJ35_init 1 = .ok (.invokespecial 1, 3) := by decide +kernel
theorem dJ35_init_4 : decode cJ35_init 4 = .ok (.return_, 1) := by decide +kernel
theorem q155 : (Jvm.Cond.initialized "java/util/AbstractQueue") ∈ lw_all := lw_g (lw_at lw_m1 59 rfl) rfl
theorem q2448 : (Jvm.Cond.instanceMethod ({ cls := "java/util/AbstractQueue", name := "<init>", desc := "()V" } : Jvm.MethodName)) ∈ lw_all := lw_g (lw_at lw_m10 192 rfl) rfl
theorem q2449 : (Jvm.Cond.code ({ cls := "java/util/AbstractQueue", name := "<init>", desc := "()V" } : Jvm.MethodName) prog_58_method_1_code (1 : Nat) (Option.none : Option Jvm.ClassFile.FieldType)) ∈ lw_all := lw_g (lw_at lw_m10 193 rfl) rfl
theorem q2450 : (Jvm.Cond.methodLink "java/util/AbstractQueue" (1 : Nat) ({ cls := "java/util/AbstractCollection", name := "<init>", desc := "()V" } : Jvm.MethodName)) ∈ lw_all := lw_g (lw_at lw_m10 194 rfl) rfl
/-! java/util/PriorityQueue -/
def RJ36 : String := "java/util/PriorityQueue"
def TJ36 : u_T := fun k => match k with
  | 0 => ("java/util/PriorityQueue", "queue", "[Ljava/lang/Object;", false)
  | 1 => ("java/util/PriorityQueue", "size", "I", false)
  | 2 => ("java/util/PriorityQueue", "comparator", "Ljava/util/Comparator;", true)
  | _ => ("java/util/PriorityQueue", "modCount", "I", false)
def tyJ36 : Nat → FieldType := fun k => match k with
  | 0 => .array (.object "java/lang/Object")
  | 1 => .int
  | 2 => .object "java/util/Comparator"
  | _ => .int
abbrev wsJ360 : List Cond := u_ws RJ36 TJ36 4
theorem nmJ36 : ∀ a, a < 4 → ∀ b, b < 4 → a ≠ b → (TJ36 a).2.1 ≠ (TJ36 b).2.1 := by decide +kernel
theorem tyJ36_ok : ∀ k, k < 4 → parseFieldDescriptor (TJ36 k).2.2.1 = some (tyJ36 k) := by decide +kernel
abbrev cJ36_removeAt : ByteArray := prog_78_method_26_code
def yJ36_removeAt : MethodName := ⟨RJ36, "removeAt", "(I)Ljava/lang/Object;"⟩
def dkwJ36_removeAt_3 : List UInt8 := [27, 50, 25, 4, 165, 0, 6, 25, 4, 176, 1, 176]
abbrev dktJ36_removeAt_3 : List UInt8 := dkwJ36_removeAt_3 ++ []
def dkwJ36_removeAt_2 : List UInt8 := [83, 42, 27, 25, 4, 182, 0, 133, 44, 27, 50, 25, 4, 166, 0, 21, 42, 27, 25, 4, 182, 0, 100, 44]
abbrev dktJ36_removeAt_2 : List UInt8 := dkwJ36_removeAt_2 ++ dktJ36_removeAt_3
def dkwJ36_removeAt_1 : List UInt8 := [181, 0, 58, 62, 29, 27, 160, 0, 10, 44, 27, 1, 83, 167, 0, 45, 44, 29, 50, 58, 4, 44, 29, 1]
abbrev dktJ36_removeAt_1 : List UInt8 := dkwJ36_removeAt_1 ++ dktJ36_removeAt_2
def dkwJ36_removeAt_0 : List UInt8 := [42, 180, 0, 17, 77, 42, 89, 180, 0, 93, 4, 96, 181, 0, 93, 42, 89, 180, 0, 58, 4, 100, 90]
abbrev dktJ36_removeAt_0 : List UInt8 := dkwJ36_removeAt_0 ++ dktJ36_removeAt_1
theorem dksJ36_removeAt_0 : cJ36_removeAt.data.toList.drop 0 = dktJ36_removeAt_0 := by decide +kernel
theorem dksJ36_removeAt_1 : cJ36_removeAt.data.toList.drop 23 = dktJ36_removeAt_1 := dk_seg dksJ36_removeAt_0 23 rfl rfl
theorem dksJ36_removeAt_2 : cJ36_removeAt.data.toList.drop 47 = dktJ36_removeAt_2 := dk_seg dksJ36_removeAt_1 24 rfl rfl
theorem dksJ36_removeAt_3 : cJ36_removeAt.data.toList.drop 71 = dktJ36_removeAt_3 := dk_seg dksJ36_removeAt_2 24 rfl rfl
theorem dJ36_removeAt_0 : decode cJ36_removeAt 0 = .ok (.aload_n 0, 1) := dk_42 (dk_at dksJ36_removeAt_0 0 rfl rfl)
theorem dJ36_removeAt_1 : decode cJ36_removeAt 1 = .ok (.getfield 17, 3) := dk_180 0 17 (dk_at dksJ36_removeAt_0 1 rfl rfl)
theorem dJ36_removeAt_4 : decode cJ36_removeAt 4 = .ok (.astore_n 2, 1) := dk_77 (dk_at dksJ36_removeAt_0 4 rfl rfl)
theorem dJ36_removeAt_5 : decode cJ36_removeAt 5 = .ok (.aload_n 0, 1) := dk_42 (dk_at dksJ36_removeAt_0 5 rfl rfl)
theorem dJ36_removeAt_6 : decode cJ36_removeAt 6 = .ok (.dup, 1) := dk_89 (dk_at dksJ36_removeAt_0 6 rfl rfl)
theorem dJ36_removeAt_7 : decode cJ36_removeAt 7 = .ok (.getfield 93, 3) := dk_180 0 93 (dk_at dksJ36_removeAt_0 7 rfl rfl)
theorem dJ36_removeAt_10 : decode cJ36_removeAt 10 = .ok (.iconst 1, 1) := dk_4 (dk_at dksJ36_removeAt_0 10 rfl rfl)
theorem dJ36_removeAt_11 : decode cJ36_removeAt 11 = .ok (.iadd, 1) := dk_96 (dk_at dksJ36_removeAt_0 11 rfl rfl)
theorem dJ36_removeAt_12 : decode cJ36_removeAt 12 = .ok (.putfield 93, 3) := dk_181 0 93 (dk_at dksJ36_removeAt_0 12 rfl rfl)
theorem dJ36_removeAt_15 : decode cJ36_removeAt 15 = .ok (.aload_n 0, 1) := dk_42 (dk_at dksJ36_removeAt_0 15 rfl rfl)
theorem dJ36_removeAt_16 : decode cJ36_removeAt 16 = .ok (.dup, 1) := dk_89 (dk_at dksJ36_removeAt_0 16 rfl rfl)
theorem dJ36_removeAt_17 : decode cJ36_removeAt 17 = .ok (.getfield 58, 3) := dk_180 0 58 (dk_at dksJ36_removeAt_0 17 rfl rfl)
theorem dJ36_removeAt_20 : decode cJ36_removeAt 20 = .ok (.iconst 1, 1) := dk_4 (dk_at dksJ36_removeAt_0 20 rfl rfl)
theorem dJ36_removeAt_21 : decode cJ36_removeAt 21 = .ok (.isub, 1) := dk_100 (dk_at dksJ36_removeAt_0 21 rfl rfl)
theorem dJ36_removeAt_22 : decode cJ36_removeAt 22 = .ok (.dup_x1, 1) := dk_90 (dk_at dksJ36_removeAt_0 22 rfl rfl)
theorem dJ36_removeAt_23 : decode cJ36_removeAt 23 = .ok (.putfield 58, 3) := dk_181 0 58 (dk_at dksJ36_removeAt_1 0 rfl rfl)
theorem dJ36_removeAt_26 : decode cJ36_removeAt 26 = .ok (.istore_n 3, 1) := dk_62 (dk_at dksJ36_removeAt_1 3 rfl rfl)
theorem dJ36_removeAt_27 : decode cJ36_removeAt 27 = .ok (.iload_n 3, 1) := dk_29 (dk_at dksJ36_removeAt_1 4 rfl rfl)
theorem dJ36_removeAt_28 : decode cJ36_removeAt 28 = .ok (.iload_n 1, 1) := dk_27 (dk_at dksJ36_removeAt_1 5 rfl rfl)
theorem dJ36_removeAt_29 : decode cJ36_removeAt 29 = .ok (.if_icmp .ne 10, 3) := dk_160 0 10 (dk_at dksJ36_removeAt_1 6 rfl rfl)
theorem dJ36_removeAt_32 : decode cJ36_removeAt 32 = .ok (.aload_n 2, 1) := dk_44 (dk_at dksJ36_removeAt_1 9 rfl rfl)
theorem dJ36_removeAt_33 : decode cJ36_removeAt 33 = .ok (.iload_n 1, 1) := dk_27 (dk_at dksJ36_removeAt_1 10 rfl rfl)
theorem dJ36_removeAt_34 : decode cJ36_removeAt 34 = .ok (.aconst_null, 1) := dk_1 (dk_at dksJ36_removeAt_1 11 rfl rfl)
theorem dJ36_removeAt_35 : decode cJ36_removeAt 35 = .ok (.aastore, 1) := dk_83 (dk_at dksJ36_removeAt_1 12 rfl rfl)
theorem dJ36_removeAt_36 : decode cJ36_removeAt 36 = .ok (.goto 45, 3) := dk_167 0 45 (dk_at dksJ36_removeAt_1 13 rfl rfl)
theorem dJ36_removeAt_39 : decode cJ36_removeAt 39 = .ok (.aload_n 2, 1) := dk_44 (dk_at dksJ36_removeAt_1 16 rfl rfl)
theorem dJ36_removeAt_40 : decode cJ36_removeAt 40 = .ok (.iload_n 3, 1) := dk_29 (dk_at dksJ36_removeAt_1 17 rfl rfl)
theorem dJ36_removeAt_41 : decode cJ36_removeAt 41 = .ok (.aaload, 1) := dk_50 (dk_at dksJ36_removeAt_1 18 rfl rfl)
theorem dJ36_removeAt_42 : decode cJ36_removeAt 42 = .ok (.astore 4, 2) := dk_58 4 (dk_at dksJ36_removeAt_1 19 rfl rfl)
theorem dJ36_removeAt_44 : decode cJ36_removeAt 44 = .ok (.aload_n 2, 1) := dk_44 (dk_at dksJ36_removeAt_1 21 rfl rfl)
theorem dJ36_removeAt_45 : decode cJ36_removeAt 45 = .ok (.iload_n 3, 1) := dk_29 (dk_at dksJ36_removeAt_1 22 rfl rfl)
theorem dJ36_removeAt_46 : decode cJ36_removeAt 46 = .ok (.aconst_null, 1) := dk_1 (dk_at dksJ36_removeAt_1 23 rfl rfl)
theorem dJ36_removeAt_47 : decode cJ36_removeAt 47 = .ok (.aastore, 1) := dk_83 (dk_at dksJ36_removeAt_2 0 rfl rfl)
theorem dJ36_removeAt_48 : decode cJ36_removeAt 48 = .ok (.aload_n 0, 1) := dk_42 (dk_at dksJ36_removeAt_2 1 rfl rfl)
theorem dJ36_removeAt_49 : decode cJ36_removeAt 49 = .ok (.iload_n 1, 1) := dk_27 (dk_at dksJ36_removeAt_2 2 rfl rfl)
theorem dJ36_removeAt_50 : decode cJ36_removeAt 50 = .ok (.aload 4, 2) := dk_25 4 (dk_at dksJ36_removeAt_2 3 rfl rfl)
theorem dJ36_removeAt_52 : decode cJ36_removeAt 52 = .ok (.invokevirtual 133, 3) := dk_182 0 133 (dk_at dksJ36_removeAt_2 5 rfl rfl)
theorem dJ36_removeAt_55 : decode cJ36_removeAt 55 = .ok (.aload_n 2, 1) := dk_44 (dk_at dksJ36_removeAt_2 8 rfl rfl)
theorem dJ36_removeAt_56 : decode cJ36_removeAt 56 = .ok (.iload_n 1, 1) := dk_27 (dk_at dksJ36_removeAt_2 9 rfl rfl)
theorem dJ36_removeAt_57 : decode cJ36_removeAt 57 = .ok (.aaload, 1) := dk_50 (dk_at dksJ36_removeAt_2 10 rfl rfl)
theorem dJ36_removeAt_58 : decode cJ36_removeAt 58 = .ok (.aload 4, 2) := dk_25 4 (dk_at dksJ36_removeAt_2 11 rfl rfl)
theorem dJ36_removeAt_60 : decode cJ36_removeAt 60 = .ok (.if_acmp .ne 21, 3) := dk_166 0 21 (dk_at dksJ36_removeAt_2 13 rfl rfl)
theorem dJ36_removeAt_63 : decode cJ36_removeAt 63 = .ok (.aload_n 0, 1) := dk_42 (dk_at dksJ36_removeAt_2 16 rfl rfl)
theorem dJ36_removeAt_64 : decode cJ36_removeAt 64 = .ok (.iload_n 1, 1) := dk_27 (dk_at dksJ36_removeAt_2 17 rfl rfl)
theorem dJ36_removeAt_65 : decode cJ36_removeAt 65 = .ok (.aload 4, 2) := dk_25 4 (dk_at dksJ36_removeAt_2 18 rfl rfl)
theorem dJ36_removeAt_67 : decode cJ36_removeAt 67 = .ok (.invokevirtual 100, 3) := dk_182 0 100 (dk_at dksJ36_removeAt_2 20 rfl rfl)
theorem dJ36_removeAt_70 : decode cJ36_removeAt 70 = .ok (.aload_n 2, 1) := dk_44 (dk_at dksJ36_removeAt_2 23 rfl rfl)
theorem dJ36_removeAt_71 : decode cJ36_removeAt 71 = .ok (.iload_n 1, 1) := dk_27 (dk_at dksJ36_removeAt_3 0 rfl rfl)
theorem dJ36_removeAt_72 : decode cJ36_removeAt 72 = .ok (.aaload, 1) := dk_50 (dk_at dksJ36_removeAt_3 1 rfl rfl)
theorem dJ36_removeAt_73 : decode cJ36_removeAt 73 = .ok (.aload 4, 2) := dk_25 4 (dk_at dksJ36_removeAt_3 2 rfl rfl)
theorem dJ36_removeAt_75 : decode cJ36_removeAt 75 = .ok (.if_acmp .eq 6, 3) := dk_165 0 6 (dk_at dksJ36_removeAt_3 4 rfl rfl)
theorem dJ36_removeAt_78 : decode cJ36_removeAt 78 = .ok (.aload 4, 2) := dk_25 4 (dk_at dksJ36_removeAt_3 7 rfl rfl)
theorem dJ36_removeAt_80 : decode cJ36_removeAt 80 = .ok (.areturn, 1) := dk_176 (dk_at dksJ36_removeAt_3 9 rfl rfl)
theorem dJ36_removeAt_81 : decode cJ36_removeAt 81 = .ok (.aconst_null, 1) := dk_1 (dk_at dksJ36_removeAt_3 10 rfl rfl)
theorem dJ36_removeAt_82 : decode cJ36_removeAt 82 = .ok (.areturn, 1) := dk_176 (dk_at dksJ36_removeAt_3 11 rfl rfl)
abbrev cJ36_siftDown : ByteArray := prog_78_method_30_code
def yJ36_siftDown : MethodName := ⟨RJ36, "siftDown", "(ILjava/lang/Object;)V"⟩
def dkwJ36_siftDown_1 : List UInt8 := [167, 0, 16, 27, 44, 42, 180, 0, 17, 42, 180, 0, 58, 184, 0, 125, 177]
abbrev dktJ36_siftDown_1 : List UInt8 := dkwJ36_siftDown_1 ++ []
def dkwJ36_siftDown_0 : List UInt8 := [42, 180, 0, 21, 198, 0, 23, 27, 44, 42, 180, 0, 17, 42, 180, 0, 58, 42, 180, 0, 21, 184, 0, 129]
abbrev dktJ36_siftDown_0 : List UInt8 := dkwJ36_siftDown_0 ++ dktJ36_siftDown_1
theorem dksJ36_siftDown_0 : cJ36_siftDown.data.toList.drop 0 = dktJ36_siftDown_0 := by decide +kernel
theorem dksJ36_siftDown_1 : cJ36_siftDown.data.toList.drop 24 = dktJ36_siftDown_1 := dk_seg dksJ36_siftDown_0 24 rfl rfl
theorem dJ36_siftDown_0 : decode cJ36_siftDown 0 = .ok (.aload_n 0, 1) := dk_42 (dk_at dksJ36_siftDown_0 0 rfl rfl)
theorem dJ36_siftDown_1 : decode cJ36_siftDown 1 = .ok (.getfield 21, 3) := dk_180 0 21 (dk_at dksJ36_siftDown_0 1 rfl rfl)
theorem dJ36_siftDown_4 : decode cJ36_siftDown 4 = .ok (.ifnull 23, 3) := dk_198 0 23 (dk_at dksJ36_siftDown_0 4 rfl rfl)
theorem dJ36_siftDown_7 : decode cJ36_siftDown 7 = .ok (.iload_n 1, 1) := dk_27 (dk_at dksJ36_siftDown_0 7 rfl rfl)
theorem dJ36_siftDown_8 : decode cJ36_siftDown 8 = .ok (.aload_n 2, 1) := dk_44 (dk_at dksJ36_siftDown_0 8 rfl rfl)
theorem dJ36_siftDown_9 : decode cJ36_siftDown 9 = .ok (.aload_n 0, 1) := dk_42 (dk_at dksJ36_siftDown_0 9 rfl rfl)
theorem dJ36_siftDown_10 : decode cJ36_siftDown 10 = .ok (.getfield 17, 3) := dk_180 0 17 (dk_at dksJ36_siftDown_0 10 rfl rfl)
theorem dJ36_siftDown_13 : decode cJ36_siftDown 13 = .ok (.aload_n 0, 1) := dk_42 (dk_at dksJ36_siftDown_0 13 rfl rfl)
theorem dJ36_siftDown_14 : decode cJ36_siftDown 14 = .ok (.getfield 58, 3) := dk_180 0 58 (dk_at dksJ36_siftDown_0 14 rfl rfl)
theorem dJ36_siftDown_17 : decode cJ36_siftDown 17 = .ok (.aload_n 0, 1) := dk_42 (dk_at dksJ36_siftDown_0 17 rfl rfl)
theorem dJ36_siftDown_18 : decode cJ36_siftDown 18 = .ok (.getfield 21, 3) := dk_180 0 21 (dk_at dksJ36_siftDown_0 18 rfl rfl)
theorem dJ36_siftDown_21 : decode cJ36_siftDown 21 = .ok (.invokestatic 129, 3) := dk_184 0 129 (dk_at dksJ36_siftDown_0 21 rfl rfl)
theorem dJ36_siftDown_24 : decode cJ36_siftDown 24 = .ok (.goto 16, 3) := dk_167 0 16 (dk_at dksJ36_siftDown_1 0 rfl rfl)
theorem dJ36_siftDown_27 : decode cJ36_siftDown 27 = .ok (.iload_n 1, 1) := dk_27 (dk_at dksJ36_siftDown_1 3 rfl rfl)
theorem dJ36_siftDown_28 : decode cJ36_siftDown 28 = .ok (.aload_n 2, 1) := dk_44 (dk_at dksJ36_siftDown_1 4 rfl rfl)
theorem dJ36_siftDown_29 : decode cJ36_siftDown 29 = .ok (.aload_n 0, 1) := dk_42 (dk_at dksJ36_siftDown_1 5 rfl rfl)
theorem dJ36_siftDown_30 : decode cJ36_siftDown 30 = .ok (.getfield 17, 3) := dk_180 0 17 (dk_at dksJ36_siftDown_1 6 rfl rfl)
theorem dJ36_siftDown_33 : decode cJ36_siftDown 33 = .ok (.aload_n 0, 1) := dk_42 (dk_at dksJ36_siftDown_1 9 rfl rfl)
theorem dJ36_siftDown_34 : decode cJ36_siftDown 34 = .ok (.getfield 58, 3) := dk_180 0 58 (dk_at dksJ36_siftDown_1 10 rfl rfl)
theorem dJ36_siftDown_37 : decode cJ36_siftDown 37 = .ok (.invokestatic 125, 3) := dk_184 0 125 (dk_at dksJ36_siftDown_1 13 rfl rfl)
theorem dJ36_siftDown_40 : decode cJ36_siftDown 40 = .ok (.return_, 1) := dk_177 (dk_at dksJ36_siftDown_1 16 rfl rfl)
abbrev cJ36_siftDownUsingComparator : ByteArray := prog_78_method_32_code
def yJ36_siftDownUsingComparator : MethodName := ⟨RJ36, "siftDownUsingComparator", "(ILjava/lang/Object;[Ljava/lang/Object;ILjava/util/Comparator;)V"⟩
def dkwJ36_siftDownUsingComparator_4 : List UInt8 := [43, 83, 177]
abbrev dktJ36_siftDownUsingComparator_4 : List UInt8 := dkwJ36_siftDownUsingComparator_4 ++ []
def dkwJ36_siftDownUsingComparator_3 : List UInt8 := [185, 0, 149, 3, 0, 157, 0, 6, 167, 0, 14, 44, 26, 25, 7, 83, 21, 6, 59, 167, 255, 176, 44, 26]
abbrev dktJ36_siftDownUsingComparator_3 : List UInt8 := dkwJ36_siftDownUsingComparator_3 ++ dktJ36_siftDownUsingComparator_4
def dkwJ36_siftDownUsingComparator_2 : List UInt8 := [185, 0, 149, 3, 0, 158, 0, 12, 44, 21, 8, 89, 54, 6, 50, 58, 7, 25, 4, 43, 25, 7]
abbrev dktJ36_siftDownUsingComparator_2 : List UInt8 := dkwJ36_siftDownUsingComparator_2 ++ dktJ36_siftDownUsingComparator_3
def dkwJ36_siftDownUsingComparator_1 : List UInt8 := [21, 6, 4, 96, 54, 8, 21, 8, 29, 162, 0, 28, 25, 4, 25, 7, 44, 21, 8, 50]
abbrev dktJ36_siftDownUsingComparator_1 : List UInt8 := dkwJ36_siftDownUsingComparator_1 ++ dktJ36_siftDownUsingComparator_2
def dkwJ36_siftDownUsingComparator_0 : List UInt8 := [29, 4, 124, 54, 5, 26, 21, 5, 162, 0, 80, 26, 4, 120, 4, 96, 54, 6, 44, 21, 6, 50, 58, 7]
abbrev dktJ36_siftDownUsingComparator_0 : List UInt8 := dkwJ36_siftDownUsingComparator_0 ++ dktJ36_siftDownUsingComparator_1
theorem dksJ36_siftDownUsingComparator_0 : cJ36_siftDownUsingComparator.data.toList.drop 0 = dktJ36_siftDownUsingComparator_0 := by decide +kernel
theorem dksJ36_siftDownUsingComparator_1 : cJ36_siftDownUsingComparator.data.toList.drop 24 = dktJ36_siftDownUsingComparator_1 := dk_seg dksJ36_siftDownUsingComparator_0 24 rfl rfl
theorem dksJ36_siftDownUsingComparator_2 : cJ36_siftDownUsingComparator.data.toList.drop 44 = dktJ36_siftDownUsingComparator_2 := dk_seg dksJ36_siftDownUsingComparator_1 20 rfl rfl
theorem dksJ36_siftDownUsingComparator_3 : cJ36_siftDownUsingComparator.data.toList.drop 66 = dktJ36_siftDownUsingComparator_3 := dk_seg dksJ36_siftDownUsingComparator_2 22 rfl rfl
theorem dksJ36_siftDownUsingComparator_4 : cJ36_siftDownUsingComparator.data.toList.drop 90 = dktJ36_siftDownUsingComparator_4 := dk_seg dksJ36_siftDownUsingComparator_3 24 rfl rfl
theorem dJ36_siftDownUsingComparator_0 : decode cJ36_siftDownUsingComparator 0 = .ok (.iload_n 3, 1) := dk_29 (dk_at dksJ36_siftDownUsingComparator_0 0 rfl rfl)
theorem dJ36_siftDownUsingComparator_1 : decode cJ36_siftDownUsingComparator 1 = .ok (.iconst 1, 1) := dk_4 (dk_at dksJ36_siftDownUsingComparator_0 1 rfl rfl)
theorem dJ36_siftDownUsingComparator_2 : decode cJ36_siftDownUsingComparator 2 = .ok (.iushr, 1) := dk_124 (dk_at dksJ36_siftDownUsingComparator_0 2 rfl rfl)
theorem dJ36_siftDownUsingComparator_3 : decode cJ36_siftDownUsingComparator 3 = .ok (.istore 5, 2) := dk_54 5 (dk_at dksJ36_siftDownUsingComparator_0 3 rfl rfl)
theorem dJ36_siftDownUsingComparator_5 : decode cJ36_siftDownUsingComparator 5 = .ok (.iload_n 0, 1) := dk_26 (dk_at dksJ36_siftDownUsingComparator_0 5 rfl rfl)
theorem dJ36_siftDownUsingComparator_6 : decode cJ36_siftDownUsingComparator 6 = .ok (.iload 5, 2) := dk_21 5 (dk_at dksJ36_siftDownUsingComparator_0 6 rfl rfl)
theorem dJ36_siftDownUsingComparator_8 : decode cJ36_siftDownUsingComparator 8 = .ok (.if_icmp .ge 80, 3) := dk_162 0 80 (dk_at dksJ36_siftDownUsingComparator_0 8 rfl rfl)
theorem dJ36_siftDownUsingComparator_11 : decode cJ36_siftDownUsingComparator 11 = .ok (.iload_n 0, 1) := dk_26 (dk_at dksJ36_siftDownUsingComparator_0 11 rfl rfl)
theorem dJ36_siftDownUsingComparator_12 : decode cJ36_siftDownUsingComparator 12 = .ok (.iconst 1, 1) := dk_4 (dk_at dksJ36_siftDownUsingComparator_0 12 rfl rfl)
theorem dJ36_siftDownUsingComparator_13 : decode cJ36_siftDownUsingComparator 13 = .ok (.ishl, 1) := dk_120 (dk_at dksJ36_siftDownUsingComparator_0 13 rfl rfl)
theorem dJ36_siftDownUsingComparator_14 : decode cJ36_siftDownUsingComparator 14 = .ok (.iconst 1, 1) := dk_4 (dk_at dksJ36_siftDownUsingComparator_0 14 rfl rfl)
theorem dJ36_siftDownUsingComparator_15 : decode cJ36_siftDownUsingComparator 15 = .ok (.iadd, 1) := dk_96 (dk_at dksJ36_siftDownUsingComparator_0 15 rfl rfl)
theorem dJ36_siftDownUsingComparator_16 : decode cJ36_siftDownUsingComparator 16 = .ok (.istore 6, 2) := dk_54 6 (dk_at dksJ36_siftDownUsingComparator_0 16 rfl rfl)
theorem dJ36_siftDownUsingComparator_18 : decode cJ36_siftDownUsingComparator 18 = .ok (.aload_n 2, 1) := dk_44 (dk_at dksJ36_siftDownUsingComparator_0 18 rfl rfl)
theorem dJ36_siftDownUsingComparator_19 : decode cJ36_siftDownUsingComparator 19 = .ok (.iload 6, 2) := dk_21 6 (dk_at dksJ36_siftDownUsingComparator_0 19 rfl rfl)
theorem dJ36_siftDownUsingComparator_21 : decode cJ36_siftDownUsingComparator 21 = .ok (.aaload, 1) := dk_50 (dk_at dksJ36_siftDownUsingComparator_0 21 rfl rfl)
theorem dJ36_siftDownUsingComparator_22 : decode cJ36_siftDownUsingComparator 22 = .ok (.astore 7, 2) := dk_58 7 (dk_at dksJ36_siftDownUsingComparator_0 22 rfl rfl)
theorem dJ36_siftDownUsingComparator_24 : decode cJ36_siftDownUsingComparator 24 = .ok (.iload 6, 2) := dk_21 6 (dk_at dksJ36_siftDownUsingComparator_1 0 rfl rfl)
theorem dJ36_siftDownUsingComparator_26 : decode cJ36_siftDownUsingComparator 26 = .ok (.iconst 1, 1) := dk_4 (dk_at dksJ36_siftDownUsingComparator_1 2 rfl rfl)
theorem dJ36_siftDownUsingComparator_27 : decode cJ36_siftDownUsingComparator 27 = .ok (.iadd, 1) := dk_96 (dk_at dksJ36_siftDownUsingComparator_1 3 rfl rfl)
theorem dJ36_siftDownUsingComparator_28 : decode cJ36_siftDownUsingComparator 28 = .ok (.istore 8, 2) := dk_54 8 (dk_at dksJ36_siftDownUsingComparator_1 4 rfl rfl)
theorem dJ36_siftDownUsingComparator_30 : decode cJ36_siftDownUsingComparator 30 = .ok (.iload 8, 2) := dk_21 8 (dk_at dksJ36_siftDownUsingComparator_1 6 rfl rfl)
theorem dJ36_siftDownUsingComparator_32 : decode cJ36_siftDownUsingComparator 32 = .ok (.iload_n 3, 1) := dk_29 (dk_at dksJ36_siftDownUsingComparator_1 8 rfl rfl)
theorem dJ36_siftDownUsingComparator_33 : decode cJ36_siftDownUsingComparator 33 = .ok (.if_icmp .ge 28, 3) := dk_162 0 28 (dk_at dksJ36_siftDownUsingComparator_1 9 rfl rfl)
theorem dJ36_siftDownUsingComparator_36 : decode cJ36_siftDownUsingComparator 36 = .ok (.aload 4, 2) := dk_25 4 (dk_at dksJ36_siftDownUsingComparator_1 12 rfl rfl)
theorem dJ36_siftDownUsingComparator_38 : decode cJ36_siftDownUsingComparator 38 = .ok (.aload 7, 2) := dk_25 7 (dk_at dksJ36_siftDownUsingComparator_1 14 rfl rfl)
theorem dJ36_siftDownUsingComparator_40 : decode cJ36_siftDownUsingComparator 40 = .ok (.aload_n 2, 1) := dk_44 (dk_at dksJ36_siftDownUsingComparator_1 16 rfl rfl)
theorem dJ36_siftDownUsingComparator_41 : decode cJ36_siftDownUsingComparator 41 = .ok (.iload 8, 2) := dk_21 8 (dk_at dksJ36_siftDownUsingComparator_1 17 rfl rfl)
theorem dJ36_siftDownUsingComparator_43 : decode cJ36_siftDownUsingComparator 43 = .ok (.aaload, 1) := dk_50 (dk_at dksJ36_siftDownUsingComparator_1 19 rfl rfl)
theorem dJ36_siftDownUsingComparator_44 : decode cJ36_siftDownUsingComparator 44 = .ok (.invokeinterface 149 3, 5) := by decide +kernel
theorem dJ36_siftDownUsingComparator_49 : decode cJ36_siftDownUsingComparator 49 = .ok (.ifCond .le 12, 3) := dk_158 0 12 (dk_at dksJ36_siftDownUsingComparator_2 5 rfl rfl)
theorem dJ36_siftDownUsingComparator_52 : decode cJ36_siftDownUsingComparator 52 = .ok (.aload_n 2, 1) := dk_44 (dk_at dksJ36_siftDownUsingComparator_2 8 rfl rfl)
theorem dJ36_siftDownUsingComparator_53 : decode cJ36_siftDownUsingComparator 53 = .ok (.iload 8, 2) := dk_21 8 (dk_at dksJ36_siftDownUsingComparator_2 9 rfl rfl)
theorem dJ36_siftDownUsingComparator_55 : decode cJ36_siftDownUsingComparator 55 = .ok (.dup, 1) := dk_89 (dk_at dksJ36_siftDownUsingComparator_2 11 rfl rfl)
theorem dJ36_siftDownUsingComparator_56 : decode cJ36_siftDownUsingComparator 56 = .ok (.istore 6, 2) := dk_54 6 (dk_at dksJ36_siftDownUsingComparator_2 12 rfl rfl)
theorem dJ36_siftDownUsingComparator_58 : decode cJ36_siftDownUsingComparator 58 = .ok (.aaload, 1) := dk_50 (dk_at dksJ36_siftDownUsingComparator_2 14 rfl rfl)
theorem dJ36_siftDownUsingComparator_59 : decode cJ36_siftDownUsingComparator 59 = .ok (.astore 7, 2) := dk_58 7 (dk_at dksJ36_siftDownUsingComparator_2 15 rfl rfl)
theorem dJ36_siftDownUsingComparator_61 : decode cJ36_siftDownUsingComparator 61 = .ok (.aload 4, 2) := dk_25 4 (dk_at dksJ36_siftDownUsingComparator_2 17 rfl rfl)
theorem dJ36_siftDownUsingComparator_63 : decode cJ36_siftDownUsingComparator 63 = .ok (.aload_n 1, 1) := dk_43 (dk_at dksJ36_siftDownUsingComparator_2 19 rfl rfl)
theorem dJ36_siftDownUsingComparator_64 : decode cJ36_siftDownUsingComparator 64 = .ok (.aload 7, 2) := dk_25 7 (dk_at dksJ36_siftDownUsingComparator_2 20 rfl rfl)
theorem dJ36_siftDownUsingComparator_66 : decode cJ36_siftDownUsingComparator 66 = .ok (.invokeinterface 149 3, 5) := by decide +kernel
theorem dJ36_siftDownUsingComparator_71 : decode cJ36_siftDownUsingComparator 71 = .ok (.ifCond .gt 6, 3) := dk_157 0 6 (dk_at dksJ36_siftDownUsingComparator_3 5 rfl rfl)
theorem dJ36_siftDownUsingComparator_74 : decode cJ36_siftDownUsingComparator 74 = .ok (.goto 14, 3) := dk_167 0 14 (dk_at dksJ36_siftDownUsingComparator_3 8 rfl rfl)
theorem dJ36_siftDownUsingComparator_77 : decode cJ36_siftDownUsingComparator 77 = .ok (.aload_n 2, 1) := dk_44 (dk_at dksJ36_siftDownUsingComparator_3 11 rfl rfl)
theorem dJ36_siftDownUsingComparator_78 : decode cJ36_siftDownUsingComparator 78 = .ok (.iload_n 0, 1) := dk_26 (dk_at dksJ36_siftDownUsingComparator_3 12 rfl rfl)
theorem dJ36_siftDownUsingComparator_79 : decode cJ36_siftDownUsingComparator 79 = .ok (.aload 7, 2) := dk_25 7 (dk_at dksJ36_siftDownUsingComparator_3 13 rfl rfl)
theorem dJ36_siftDownUsingComparator_81 : decode cJ36_siftDownUsingComparator 81 = .ok (.aastore, 1) := dk_83 (dk_at dksJ36_siftDownUsingComparator_3 15 rfl rfl)
theorem dJ36_siftDownUsingComparator_82 : decode cJ36_siftDownUsingComparator 82 = .ok (.iload 6, 2) := dk_21 6 (dk_at dksJ36_siftDownUsingComparator_3 16 rfl rfl)
theorem dJ36_siftDownUsingComparator_84 : decode cJ36_siftDownUsingComparator 84 = .ok (.istore_n 0, 1) := dk_59 (dk_at dksJ36_siftDownUsingComparator_3 18 rfl rfl)
theorem dJ36_siftDownUsingComparator_85 : decode cJ36_siftDownUsingComparator 85 = .ok (.goto (-80), 3) := dk_167 255 176 (dk_at dksJ36_siftDownUsingComparator_3 19 rfl rfl)
theorem dJ36_siftDownUsingComparator_88 : decode cJ36_siftDownUsingComparator 88 = .ok (.aload_n 2, 1) := dk_44 (dk_at dksJ36_siftDownUsingComparator_3 22 rfl rfl)
theorem dJ36_siftDownUsingComparator_89 : decode cJ36_siftDownUsingComparator 89 = .ok (.iload_n 0, 1) := dk_26 (dk_at dksJ36_siftDownUsingComparator_3 23 rfl rfl)
theorem dJ36_siftDownUsingComparator_90 : decode cJ36_siftDownUsingComparator 90 = .ok (.aload_n 1, 1) := dk_43 (dk_at dksJ36_siftDownUsingComparator_4 0 rfl rfl)
theorem dJ36_siftDownUsingComparator_91 : decode cJ36_siftDownUsingComparator 91 = .ok (.aastore, 1) := dk_83 (dk_at dksJ36_siftDownUsingComparator_4 1 rfl rfl)
theorem dJ36_siftDownUsingComparator_92 : decode cJ36_siftDownUsingComparator 92 = .ok (.return_, 1) := dk_177 (dk_at dksJ36_siftDownUsingComparator_4 2 rfl rfl)
abbrev cJ36_siftDownComparable : ByteArray := prog_78_method_31_code
def yJ36_siftDownComparable : MethodName := ⟨RJ36, "siftDownComparable", "(ILjava/lang/Object;[Ljava/lang/Object;I)V"⟩
def dkwJ36_siftDownComparable_4 : List UInt8 := [25, 4, 83, 177]
abbrev dktJ36_siftDownComparable_4 : List UInt8 := dkwJ36_siftDownComparable_4 ++ []
def dkwJ36_siftDownComparable_3 : List UInt8 := [185, 0, 146, 2, 0, 157, 0, 6, 167, 0, 14, 44, 26, 25, 7, 83, 21, 6, 59, 167, 255, 176, 44, 26]
abbrev dktJ36_siftDownComparable_3 : List UInt8 := dkwJ36_siftDownComparable_3 ++ dktJ36_siftDownComparable_4
def dkwJ36_siftDownComparable_2 : List UInt8 := [21, 8, 50, 185, 0, 146, 2, 0, 158, 0, 12, 44, 21, 8, 89, 54, 6, 50, 58, 7, 25, 4, 25, 7]
abbrev dktJ36_siftDownComparable_2 : List UInt8 := dkwJ36_siftDownComparable_2 ++ dktJ36_siftDownComparable_3
def dkwJ36_siftDownComparable_1 : List UInt8 := [44, 21, 6, 50, 58, 7, 21, 6, 4, 96, 54, 8, 21, 8, 29, 162, 0, 29, 25, 7, 192, 0, 144, 44]
abbrev dktJ36_siftDownComparable_1 : List UInt8 := dkwJ36_siftDownComparable_1 ++ dktJ36_siftDownComparable_2
def dkwJ36_siftDownComparable_0 : List UInt8 := [43, 192, 0, 144, 58, 4, 29, 4, 124, 54, 5, 26, 21, 5, 162, 0, 80, 26, 4, 120, 4, 96, 54, 6]
abbrev dktJ36_siftDownComparable_0 : List UInt8 := dkwJ36_siftDownComparable_0 ++ dktJ36_siftDownComparable_1
theorem dksJ36_siftDownComparable_0 : cJ36_siftDownComparable.data.toList.drop 0 = dktJ36_siftDownComparable_0 := by decide +kernel
theorem dksJ36_siftDownComparable_1 : cJ36_siftDownComparable.data.toList.drop 24 = dktJ36_siftDownComparable_1 := dk_seg dksJ36_siftDownComparable_0 24 rfl rfl
theorem dksJ36_siftDownComparable_2 : cJ36_siftDownComparable.data.toList.drop 48 = dktJ36_siftDownComparable_2 := dk_seg dksJ36_siftDownComparable_1 24 rfl rfl
theorem dksJ36_siftDownComparable_3 : cJ36_siftDownComparable.data.toList.drop 72 = dktJ36_siftDownComparable_3 := dk_seg dksJ36_siftDownComparable_2 24 rfl rfl
theorem dksJ36_siftDownComparable_4 : cJ36_siftDownComparable.data.toList.drop 96 = dktJ36_siftDownComparable_4 := dk_seg dksJ36_siftDownComparable_3 24 rfl rfl
theorem dJ36_siftDownComparable_0 : decode cJ36_siftDownComparable 0 = .ok (.aload_n 1, 1) := dk_43 (dk_at dksJ36_siftDownComparable_0 0 rfl rfl)
theorem dJ36_siftDownComparable_1 : decode cJ36_siftDownComparable 1 = .ok (.checkcast 144, 3) := dk_192 0 144 (dk_at dksJ36_siftDownComparable_0 1 rfl rfl)
theorem dJ36_siftDownComparable_4 : decode cJ36_siftDownComparable 4 = .ok (.astore 4, 2) := dk_58 4 (dk_at dksJ36_siftDownComparable_0 4 rfl rfl)
theorem dJ36_siftDownComparable_6 : decode cJ36_siftDownComparable 6 = .ok (.iload_n 3, 1) := dk_29 (dk_at dksJ36_siftDownComparable_0 6 rfl rfl)
theorem dJ36_siftDownComparable_7 : decode cJ36_siftDownComparable 7 = .ok (.iconst 1, 1) := dk_4 (dk_at dksJ36_siftDownComparable_0 7 rfl rfl)
theorem dJ36_siftDownComparable_8 : decode cJ36_siftDownComparable 8 = .ok (.iushr, 1) := dk_124 (dk_at dksJ36_siftDownComparable_0 8 rfl rfl)
theorem dJ36_siftDownComparable_9 : decode cJ36_siftDownComparable 9 = .ok (.istore 5, 2) := dk_54 5 (dk_at dksJ36_siftDownComparable_0 9 rfl rfl)
theorem dJ36_siftDownComparable_11 : decode cJ36_siftDownComparable 11 = .ok (.iload_n 0, 1) := dk_26 (dk_at dksJ36_siftDownComparable_0 11 rfl rfl)
theorem dJ36_siftDownComparable_12 : decode cJ36_siftDownComparable 12 = .ok (.iload 5, 2) := dk_21 5 (dk_at dksJ36_siftDownComparable_0 12 rfl rfl)
theorem dJ36_siftDownComparable_14 : decode cJ36_siftDownComparable 14 = .ok (.if_icmp .ge 80, 3) := dk_162 0 80 (dk_at dksJ36_siftDownComparable_0 14 rfl rfl)
theorem dJ36_siftDownComparable_17 : decode cJ36_siftDownComparable 17 = .ok (.iload_n 0, 1) := dk_26 (dk_at dksJ36_siftDownComparable_0 17 rfl rfl)
theorem dJ36_siftDownComparable_18 : decode cJ36_siftDownComparable 18 = .ok (.iconst 1, 1) := dk_4 (dk_at dksJ36_siftDownComparable_0 18 rfl rfl)
theorem dJ36_siftDownComparable_19 : decode cJ36_siftDownComparable 19 = .ok (.ishl, 1) := dk_120 (dk_at dksJ36_siftDownComparable_0 19 rfl rfl)
theorem dJ36_siftDownComparable_20 : decode cJ36_siftDownComparable 20 = .ok (.iconst 1, 1) := dk_4 (dk_at dksJ36_siftDownComparable_0 20 rfl rfl)
theorem dJ36_siftDownComparable_21 : decode cJ36_siftDownComparable 21 = .ok (.iadd, 1) := dk_96 (dk_at dksJ36_siftDownComparable_0 21 rfl rfl)
theorem dJ36_siftDownComparable_22 : decode cJ36_siftDownComparable 22 = .ok (.istore 6, 2) := dk_54 6 (dk_at dksJ36_siftDownComparable_0 22 rfl rfl)
theorem dJ36_siftDownComparable_24 : decode cJ36_siftDownComparable 24 = .ok (.aload_n 2, 1) := dk_44 (dk_at dksJ36_siftDownComparable_1 0 rfl rfl)
theorem dJ36_siftDownComparable_25 : decode cJ36_siftDownComparable 25 = .ok (.iload 6, 2) := dk_21 6 (dk_at dksJ36_siftDownComparable_1 1 rfl rfl)
theorem dJ36_siftDownComparable_27 : decode cJ36_siftDownComparable 27 = .ok (.aaload, 1) := dk_50 (dk_at dksJ36_siftDownComparable_1 3 rfl rfl)
theorem dJ36_siftDownComparable_28 : decode cJ36_siftDownComparable 28 = .ok (.astore 7, 2) := dk_58 7 (dk_at dksJ36_siftDownComparable_1 4 rfl rfl)
theorem dJ36_siftDownComparable_30 : decode cJ36_siftDownComparable 30 = .ok (.iload 6, 2) := dk_21 6 (dk_at dksJ36_siftDownComparable_1 6 rfl rfl)
theorem dJ36_siftDownComparable_32 : decode cJ36_siftDownComparable 32 = .ok (.iconst 1, 1) := dk_4 (dk_at dksJ36_siftDownComparable_1 8 rfl rfl)
theorem dJ36_siftDownComparable_33 : decode cJ36_siftDownComparable 33 = .ok (.iadd, 1) := dk_96 (dk_at dksJ36_siftDownComparable_1 9 rfl rfl)
theorem dJ36_siftDownComparable_34 : decode cJ36_siftDownComparable 34 = .ok (.istore 8, 2) := dk_54 8 (dk_at dksJ36_siftDownComparable_1 10 rfl rfl)
theorem dJ36_siftDownComparable_36 : decode cJ36_siftDownComparable 36 = .ok (.iload 8, 2) := dk_21 8 (dk_at dksJ36_siftDownComparable_1 12 rfl rfl)
theorem dJ36_siftDownComparable_38 : decode cJ36_siftDownComparable 38 = .ok (.iload_n 3, 1) := dk_29 (dk_at dksJ36_siftDownComparable_1 14 rfl rfl)
theorem dJ36_siftDownComparable_39 : decode cJ36_siftDownComparable 39 = .ok (.if_icmp .ge 29, 3) := dk_162 0 29 (dk_at dksJ36_siftDownComparable_1 15 rfl rfl)
theorem dJ36_siftDownComparable_42 : decode cJ36_siftDownComparable 42 = .ok (.aload 7, 2) := dk_25 7 (dk_at dksJ36_siftDownComparable_1 18 rfl rfl)
theorem dJ36_siftDownComparable_44 : decode cJ36_siftDownComparable 44 = .ok (.checkcast 144, 3) := dk_192 0 144 (dk_at dksJ36_siftDownComparable_1 20 rfl rfl)
theorem dJ36_siftDownComparable_47 : decode cJ36_siftDownComparable 47 = .ok (.aload_n 2, 1) := dk_44 (dk_at dksJ36_siftDownComparable_1 23 rfl rfl)
theorem dJ36_siftDownComparable_48 : decode cJ36_siftDownComparable 48 = .ok (.iload 8, 2) := dk_21 8 (dk_at dksJ36_siftDownComparable_2 0 rfl rfl)
theorem dJ36_siftDownComparable_50 : decode cJ36_siftDownComparable 50 = .ok (.aaload, 1) := dk_50 (dk_at dksJ36_siftDownComparable_2 2 rfl rfl)
theorem dJ36_siftDownComparable_51 : decode cJ36_siftDownComparable 51 = .ok (.invokeinterface 146 2, 5) := by decide +kernel
theorem dJ36_siftDownComparable_56 : decode cJ36_siftDownComparable 56 = .ok (.ifCond .le 12, 3) := dk_158 0 12 (dk_at dksJ36_siftDownComparable_2 8 rfl rfl)
theorem dJ36_siftDownComparable_59 : decode cJ36_siftDownComparable 59 = .ok (.aload_n 2, 1) := dk_44 (dk_at dksJ36_siftDownComparable_2 11 rfl rfl)
theorem dJ36_siftDownComparable_60 : decode cJ36_siftDownComparable 60 = .ok (.iload 8, 2) := dk_21 8 (dk_at dksJ36_siftDownComparable_2 12 rfl rfl)
theorem dJ36_siftDownComparable_62 : decode cJ36_siftDownComparable 62 = .ok (.dup, 1) := dk_89 (dk_at dksJ36_siftDownComparable_2 14 rfl rfl)
theorem dJ36_siftDownComparable_63 : decode cJ36_siftDownComparable 63 = .ok (.istore 6, 2) := dk_54 6 (dk_at dksJ36_siftDownComparable_2 15 rfl rfl)
theorem dJ36_siftDownComparable_65 : decode cJ36_siftDownComparable 65 = .ok (.aaload, 1) := dk_50 (dk_at dksJ36_siftDownComparable_2 17 rfl rfl)
theorem dJ36_siftDownComparable_66 : decode cJ36_siftDownComparable 66 = .ok (.astore 7, 2) := dk_58 7 (dk_at dksJ36_siftDownComparable_2 18 rfl rfl)
theorem dJ36_siftDownComparable_68 : decode cJ36_siftDownComparable 68 = .ok (.aload 4, 2) := dk_25 4 (dk_at dksJ36_siftDownComparable_2 20 rfl rfl)
theorem dJ36_siftDownComparable_70 : decode cJ36_siftDownComparable 70 = .ok (.aload 7, 2) := dk_25 7 (dk_at dksJ36_siftDownComparable_2 22 rfl rfl)
theorem dJ36_siftDownComparable_72 : decode cJ36_siftDownComparable 72 = .ok (.invokeinterface 146 2, 5) := by decide +kernel
theorem dJ36_siftDownComparable_77 : decode cJ36_siftDownComparable 77 = .ok (.ifCond .gt 6, 3) := dk_157 0 6 (dk_at dksJ36_siftDownComparable_3 5 rfl rfl)
theorem dJ36_siftDownComparable_80 : decode cJ36_siftDownComparable 80 = .ok (.goto 14, 3) := dk_167 0 14 (dk_at dksJ36_siftDownComparable_3 8 rfl rfl)
theorem dJ36_siftDownComparable_83 : decode cJ36_siftDownComparable 83 = .ok (.aload_n 2, 1) := dk_44 (dk_at dksJ36_siftDownComparable_3 11 rfl rfl)
theorem dJ36_siftDownComparable_84 : decode cJ36_siftDownComparable 84 = .ok (.iload_n 0, 1) := dk_26 (dk_at dksJ36_siftDownComparable_3 12 rfl rfl)
theorem dJ36_siftDownComparable_85 : decode cJ36_siftDownComparable 85 = .ok (.aload 7, 2) := dk_25 7 (dk_at dksJ36_siftDownComparable_3 13 rfl rfl)
theorem dJ36_siftDownComparable_87 : decode cJ36_siftDownComparable 87 = .ok (.aastore, 1) := dk_83 (dk_at dksJ36_siftDownComparable_3 15 rfl rfl)
theorem dJ36_siftDownComparable_88 : decode cJ36_siftDownComparable 88 = .ok (.iload 6, 2) := dk_21 6 (dk_at dksJ36_siftDownComparable_3 16 rfl rfl)
theorem dJ36_siftDownComparable_90 : decode cJ36_siftDownComparable 90 = .ok (.istore_n 0, 1) := dk_59 (dk_at dksJ36_siftDownComparable_3 18 rfl rfl)
theorem dJ36_siftDownComparable_91 : decode cJ36_siftDownComparable 91 = .ok (.goto (-80), 3) := dk_167 255 176 (dk_at dksJ36_siftDownComparable_3 19 rfl rfl)
theorem dJ36_siftDownComparable_94 : decode cJ36_siftDownComparable 94 = .ok (.aload_n 2, 1) := dk_44 (dk_at dksJ36_siftDownComparable_3 22 rfl rfl)
theorem dJ36_siftDownComparable_95 : decode cJ36_siftDownComparable 95 = .ok (.iload_n 0, 1) := dk_26 (dk_at dksJ36_siftDownComparable_3 23 rfl rfl)
theorem dJ36_siftDownComparable_96 : decode cJ36_siftDownComparable 96 = .ok (.aload 4, 2) := dk_25 4 (dk_at dksJ36_siftDownComparable_4 0 rfl rfl)
theorem dJ36_siftDownComparable_98 : decode cJ36_siftDownComparable 98 = .ok (.aastore, 1) := dk_83 (dk_at dksJ36_siftDownComparable_4 2 rfl rfl)
theorem dJ36_siftDownComparable_99 : decode cJ36_siftDownComparable 99 = .ok (.return_, 1) := dk_177 (dk_at dksJ36_siftDownComparable_4 3 rfl rfl)
abbrev cJ36_siftUp : ByteArray := prog_78_method_27_code
def yJ36_siftUp : MethodName := ⟨RJ36, "siftUp", "(ILjava/lang/Object;)V"⟩
def dkwJ36_siftUp_1 : List UInt8 := [44, 42, 180, 0, 17, 184, 0, 140, 177]
abbrev dktJ36_siftUp_1 : List UInt8 := dkwJ36_siftUp_1 ++ []
def dkwJ36_siftUp_0 : List UInt8 := [42, 180, 0, 21, 198, 0, 19, 27, 44, 42, 180, 0, 17, 42, 180, 0, 21, 184, 0, 136, 167, 0, 12, 27]
abbrev dktJ36_siftUp_0 : List UInt8 := dkwJ36_siftUp_0 ++ dktJ36_siftUp_1
theorem dksJ36_siftUp_0 : cJ36_siftUp.data.toList.drop 0 = dktJ36_siftUp_0 := by decide +kernel
theorem dksJ36_siftUp_1 : cJ36_siftUp.data.toList.drop 24 = dktJ36_siftUp_1 := dk_seg dksJ36_siftUp_0 24 rfl rfl
theorem dJ36_siftUp_0 : decode cJ36_siftUp 0 = .ok (.aload_n 0, 1) := dk_42 (dk_at dksJ36_siftUp_0 0 rfl rfl)
theorem dJ36_siftUp_1 : decode cJ36_siftUp 1 = .ok (.getfield 21, 3) := dk_180 0 21 (dk_at dksJ36_siftUp_0 1 rfl rfl)
theorem dJ36_siftUp_4 : decode cJ36_siftUp 4 = .ok (.ifnull 19, 3) := dk_198 0 19 (dk_at dksJ36_siftUp_0 4 rfl rfl)
theorem dJ36_siftUp_7 : decode cJ36_siftUp 7 = .ok (.iload_n 1, 1) := dk_27 (dk_at dksJ36_siftUp_0 7 rfl rfl)
theorem dJ36_siftUp_8 : decode cJ36_siftUp 8 = .ok (.aload_n 2, 1) := dk_44 (dk_at dksJ36_siftUp_0 8 rfl rfl)
theorem dJ36_siftUp_9 : decode cJ36_siftUp 9 = .ok (.aload_n 0, 1) := dk_42 (dk_at dksJ36_siftUp_0 9 rfl rfl)
theorem dJ36_siftUp_10 : decode cJ36_siftUp 10 = .ok (.getfield 17, 3) := dk_180 0 17 (dk_at dksJ36_siftUp_0 10 rfl rfl)
theorem dJ36_siftUp_13 : decode cJ36_siftUp 13 = .ok (.aload_n 0, 1) := dk_42 (dk_at dksJ36_siftUp_0 13 rfl rfl)
theorem dJ36_siftUp_14 : decode cJ36_siftUp 14 = .ok (.getfield 21, 3) := dk_180 0 21 (dk_at dksJ36_siftUp_0 14 rfl rfl)
theorem dJ36_siftUp_17 : decode cJ36_siftUp 17 = .ok (.invokestatic 136, 3) := dk_184 0 136 (dk_at dksJ36_siftUp_0 17 rfl rfl)
theorem dJ36_siftUp_20 : decode cJ36_siftUp 20 = .ok (.goto 12, 3) := dk_167 0 12 (dk_at dksJ36_siftUp_0 20 rfl rfl)
theorem dJ36_siftUp_23 : decode cJ36_siftUp 23 = .ok (.iload_n 1, 1) := dk_27 (dk_at dksJ36_siftUp_0 23 rfl rfl)
theorem dJ36_siftUp_24 : decode cJ36_siftUp 24 = .ok (.aload_n 2, 1) := dk_44 (dk_at dksJ36_siftUp_1 0 rfl rfl)
theorem dJ36_siftUp_25 : decode cJ36_siftUp 25 = .ok (.aload_n 0, 1) := dk_42 (dk_at dksJ36_siftUp_1 1 rfl rfl)
theorem dJ36_siftUp_26 : decode cJ36_siftUp 26 = .ok (.getfield 17, 3) := dk_180 0 17 (dk_at dksJ36_siftUp_1 2 rfl rfl)
theorem dJ36_siftUp_29 : decode cJ36_siftUp 29 = .ok (.invokestatic 140, 3) := dk_184 0 140 (dk_at dksJ36_siftUp_1 5 rfl rfl)
theorem dJ36_siftUp_32 : decode cJ36_siftUp 32 = .ok (.return_, 1) := dk_177 (dk_at dksJ36_siftUp_1 8 rfl rfl)
abbrev cJ36_siftUpUsingComparator : ByteArray := prog_78_method_29_code
def yJ36_siftUpUsingComparator : MethodName := ⟨RJ36, "siftUpUsingComparator", "(ILjava/lang/Object;[Ljava/lang/Object;Ljava/util/Comparator;)V"⟩
def dkwJ36_siftUpUsingComparator_2 : List UInt8 := [43, 83, 177]
abbrev dktJ36_siftUpUsingComparator_2 : List UInt8 := dkwJ36_siftUpUsingComparator_2 ++ []
def dkwJ36_siftUpUsingComparator_1 : List UInt8 := [185, 0, 149, 3, 0, 155, 0, 6, 167, 0, 14, 44, 26, 25, 5, 83, 21, 4, 59, 167, 255, 216, 44, 26]
abbrev dktJ36_siftUpUsingComparator_1 : List UInt8 := dkwJ36_siftUpUsingComparator_1 ++ dktJ36_siftUpUsingComparator_2
def dkwJ36_siftUpUsingComparator_0 : List UInt8 := [26, 158, 0, 42, 26, 4, 100, 4, 124, 54, 4, 44, 21, 4, 50, 58, 5, 45, 43, 25, 5]
abbrev dktJ36_siftUpUsingComparator_0 : List UInt8 := dkwJ36_siftUpUsingComparator_0 ++ dktJ36_siftUpUsingComparator_1
theorem dksJ36_siftUpUsingComparator_0 : cJ36_siftUpUsingComparator.data.toList.drop 0 = dktJ36_siftUpUsingComparator_0 := by decide +kernel
theorem dksJ36_siftUpUsingComparator_1 : cJ36_siftUpUsingComparator.data.toList.drop 21 = dktJ36_siftUpUsingComparator_1 := dk_seg dksJ36_siftUpUsingComparator_0 21 rfl rfl
theorem dksJ36_siftUpUsingComparator_2 : cJ36_siftUpUsingComparator.data.toList.drop 45 = dktJ36_siftUpUsingComparator_2 := dk_seg dksJ36_siftUpUsingComparator_1 24 rfl rfl
theorem dJ36_siftUpUsingComparator_0 : decode cJ36_siftUpUsingComparator 0 = .ok (.iload_n 0, 1) := dk_26 (dk_at dksJ36_siftUpUsingComparator_0 0 rfl rfl)
theorem dJ36_siftUpUsingComparator_1 : decode cJ36_siftUpUsingComparator 1 = .ok (.ifCond .le 42, 3) := dk_158 0 42 (dk_at dksJ36_siftUpUsingComparator_0 1 rfl rfl)
theorem dJ36_siftUpUsingComparator_4 : decode cJ36_siftUpUsingComparator 4 = .ok (.iload_n 0, 1) := dk_26 (dk_at dksJ36_siftUpUsingComparator_0 4 rfl rfl)
theorem dJ36_siftUpUsingComparator_5 : decode cJ36_siftUpUsingComparator 5 = .ok (.iconst 1, 1) := dk_4 (dk_at dksJ36_siftUpUsingComparator_0 5 rfl rfl)
theorem dJ36_siftUpUsingComparator_6 : decode cJ36_siftUpUsingComparator 6 = .ok (.isub, 1) := dk_100 (dk_at dksJ36_siftUpUsingComparator_0 6 rfl rfl)
theorem dJ36_siftUpUsingComparator_7 : decode cJ36_siftUpUsingComparator 7 = .ok (.iconst 1, 1) := dk_4 (dk_at dksJ36_siftUpUsingComparator_0 7 rfl rfl)
theorem dJ36_siftUpUsingComparator_8 : decode cJ36_siftUpUsingComparator 8 = .ok (.iushr, 1) := dk_124 (dk_at dksJ36_siftUpUsingComparator_0 8 rfl rfl)
theorem dJ36_siftUpUsingComparator_9 : decode cJ36_siftUpUsingComparator 9 = .ok (.istore 4, 2) := dk_54 4 (dk_at dksJ36_siftUpUsingComparator_0 9 rfl rfl)
theorem dJ36_siftUpUsingComparator_11 : decode cJ36_siftUpUsingComparator 11 = .ok (.aload_n 2, 1) := dk_44 (dk_at dksJ36_siftUpUsingComparator_0 11 rfl rfl)
theorem dJ36_siftUpUsingComparator_12 : decode cJ36_siftUpUsingComparator 12 = .ok (.iload 4, 2) := dk_21 4 (dk_at dksJ36_siftUpUsingComparator_0 12 rfl rfl)
theorem dJ36_siftUpUsingComparator_14 : decode cJ36_siftUpUsingComparator 14 = .ok (.aaload, 1) := dk_50 (dk_at dksJ36_siftUpUsingComparator_0 14 rfl rfl)
theorem dJ36_siftUpUsingComparator_15 : decode cJ36_siftUpUsingComparator 15 = .ok (.astore 5, 2) := dk_58 5 (dk_at dksJ36_siftUpUsingComparator_0 15 rfl rfl)
theorem dJ36_siftUpUsingComparator_17 : decode cJ36_siftUpUsingComparator 17 = .ok (.aload_n 3, 1) := dk_45 (dk_at dksJ36_siftUpUsingComparator_0 17 rfl rfl)
theorem dJ36_siftUpUsingComparator_18 : decode cJ36_siftUpUsingComparator 18 = .ok (.aload_n 1, 1) := dk_43 (dk_at dksJ36_siftUpUsingComparator_0 18 rfl rfl)
theorem dJ36_siftUpUsingComparator_19 : decode cJ36_siftUpUsingComparator 19 = .ok (.aload 5, 2) := dk_25 5 (dk_at dksJ36_siftUpUsingComparator_0 19 rfl rfl)
theorem dJ36_siftUpUsingComparator_21 : decode cJ36_siftUpUsingComparator 21 = .ok (.invokeinterface 149 3, 5) := by decide +kernel
theorem dJ36_siftUpUsingComparator_26 : decode cJ36_siftUpUsingComparator 26 = .ok (.ifCond .lt 6, 3) := dk_155 0 6 (dk_at dksJ36_siftUpUsingComparator_1 5 rfl rfl)
theorem dJ36_siftUpUsingComparator_29 : decode cJ36_siftUpUsingComparator 29 = .ok (.goto 14, 3) := dk_167 0 14 (dk_at dksJ36_siftUpUsingComparator_1 8 rfl rfl)
theorem dJ36_siftUpUsingComparator_32 : decode cJ36_siftUpUsingComparator 32 = .ok (.aload_n 2, 1) := dk_44 (dk_at dksJ36_siftUpUsingComparator_1 11 rfl rfl)
theorem dJ36_siftUpUsingComparator_33 : decode cJ36_siftUpUsingComparator 33 = .ok (.iload_n 0, 1) := dk_26 (dk_at dksJ36_siftUpUsingComparator_1 12 rfl rfl)
theorem dJ36_siftUpUsingComparator_34 : decode cJ36_siftUpUsingComparator 34 = .ok (.aload 5, 2) := dk_25 5 (dk_at dksJ36_siftUpUsingComparator_1 13 rfl rfl)
theorem dJ36_siftUpUsingComparator_36 : decode cJ36_siftUpUsingComparator 36 = .ok (.aastore, 1) := dk_83 (dk_at dksJ36_siftUpUsingComparator_1 15 rfl rfl)
theorem dJ36_siftUpUsingComparator_37 : decode cJ36_siftUpUsingComparator 37 = .ok (.iload 4, 2) := dk_21 4 (dk_at dksJ36_siftUpUsingComparator_1 16 rfl rfl)
theorem dJ36_siftUpUsingComparator_39 : decode cJ36_siftUpUsingComparator 39 = .ok (.istore_n 0, 1) := dk_59 (dk_at dksJ36_siftUpUsingComparator_1 18 rfl rfl)
theorem dJ36_siftUpUsingComparator_40 : decode cJ36_siftUpUsingComparator 40 = .ok (.goto (-40), 3) := dk_167 255 216 (dk_at dksJ36_siftUpUsingComparator_1 19 rfl rfl)
theorem dJ36_siftUpUsingComparator_43 : decode cJ36_siftUpUsingComparator 43 = .ok (.aload_n 2, 1) := dk_44 (dk_at dksJ36_siftUpUsingComparator_1 22 rfl rfl)
theorem dJ36_siftUpUsingComparator_44 : decode cJ36_siftUpUsingComparator 44 = .ok (.iload_n 0, 1) := dk_26 (dk_at dksJ36_siftUpUsingComparator_1 23 rfl rfl)
theorem dJ36_siftUpUsingComparator_45 : decode cJ36_siftUpUsingComparator 45 = .ok (.aload_n 1, 1) := dk_43 (dk_at dksJ36_siftUpUsingComparator_2 0 rfl rfl)
theorem dJ36_siftUpUsingComparator_46 : decode cJ36_siftUpUsingComparator 46 = .ok (.aastore, 1) := dk_83 (dk_at dksJ36_siftUpUsingComparator_2 1 rfl rfl)
theorem dJ36_siftUpUsingComparator_47 : decode cJ36_siftUpUsingComparator 47 = .ok (.return_, 1) := dk_177 (dk_at dksJ36_siftUpUsingComparator_2 2 rfl rfl)
abbrev cJ36_siftUpComparable : ByteArray := prog_78_method_28_code
def yJ36_siftUpComparable : MethodName := ⟨RJ36, "siftUpComparable", "(ILjava/lang/Object;[Ljava/lang/Object;)V"⟩
def dkwJ36_siftUpComparable_2 : List UInt8 := [44, 26, 45, 83, 177]
abbrev dktJ36_siftUpComparable_2 : List UInt8 := dkwJ36_siftUpComparable_2 ++ []
def dkwJ36_siftUpComparable_1 : List UInt8 := [25, 5, 185, 0, 146, 2, 0, 155, 0, 6, 167, 0, 14, 44, 26, 25, 5, 83, 21, 4, 59, 167, 255, 217]
abbrev dktJ36_siftUpComparable_1 : List UInt8 := dkwJ36_siftUpComparable_1 ++ dktJ36_siftUpComparable_2
def dkwJ36_siftUpComparable_0 : List UInt8 := [43, 192, 0, 144, 78, 26, 158, 0, 41, 26, 4, 100, 4, 124, 54, 4, 44, 21, 4, 50, 58, 5, 45]
abbrev dktJ36_siftUpComparable_0 : List UInt8 := dkwJ36_siftUpComparable_0 ++ dktJ36_siftUpComparable_1
theorem dksJ36_siftUpComparable_0 : cJ36_siftUpComparable.data.toList.drop 0 = dktJ36_siftUpComparable_0 := by decide +kernel
theorem dksJ36_siftUpComparable_1 : cJ36_siftUpComparable.data.toList.drop 23 = dktJ36_siftUpComparable_1 := dk_seg dksJ36_siftUpComparable_0 23 rfl rfl
theorem dksJ36_siftUpComparable_2 : cJ36_siftUpComparable.data.toList.drop 47 = dktJ36_siftUpComparable_2 := dk_seg dksJ36_siftUpComparable_1 24 rfl rfl
theorem dJ36_siftUpComparable_0 : decode cJ36_siftUpComparable 0 = .ok (.aload_n 1, 1) := dk_43 (dk_at dksJ36_siftUpComparable_0 0 rfl rfl)
theorem dJ36_siftUpComparable_1 : decode cJ36_siftUpComparable 1 = .ok (.checkcast 144, 3) := dk_192 0 144 (dk_at dksJ36_siftUpComparable_0 1 rfl rfl)
theorem dJ36_siftUpComparable_4 : decode cJ36_siftUpComparable 4 = .ok (.astore_n 3, 1) := dk_78 (dk_at dksJ36_siftUpComparable_0 4 rfl rfl)
theorem dJ36_siftUpComparable_5 : decode cJ36_siftUpComparable 5 = .ok (.iload_n 0, 1) := dk_26 (dk_at dksJ36_siftUpComparable_0 5 rfl rfl)
theorem dJ36_siftUpComparable_6 : decode cJ36_siftUpComparable 6 = .ok (.ifCond .le 41, 3) := dk_158 0 41 (dk_at dksJ36_siftUpComparable_0 6 rfl rfl)
theorem dJ36_siftUpComparable_9 : decode cJ36_siftUpComparable 9 = .ok (.iload_n 0, 1) := dk_26 (dk_at dksJ36_siftUpComparable_0 9 rfl rfl)
theorem dJ36_siftUpComparable_10 : decode cJ36_siftUpComparable 10 = .ok (.iconst 1, 1) := dk_4 (dk_at dksJ36_siftUpComparable_0 10 rfl rfl)
theorem dJ36_siftUpComparable_11 : decode cJ36_siftUpComparable 11 = .ok (.isub, 1) := dk_100 (dk_at dksJ36_siftUpComparable_0 11 rfl rfl)
theorem dJ36_siftUpComparable_12 : decode cJ36_siftUpComparable 12 = .ok (.iconst 1, 1) := dk_4 (dk_at dksJ36_siftUpComparable_0 12 rfl rfl)
theorem dJ36_siftUpComparable_13 : decode cJ36_siftUpComparable 13 = .ok (.iushr, 1) := dk_124 (dk_at dksJ36_siftUpComparable_0 13 rfl rfl)
theorem dJ36_siftUpComparable_14 : decode cJ36_siftUpComparable 14 = .ok (.istore 4, 2) := dk_54 4 (dk_at dksJ36_siftUpComparable_0 14 rfl rfl)
theorem dJ36_siftUpComparable_16 : decode cJ36_siftUpComparable 16 = .ok (.aload_n 2, 1) := dk_44 (dk_at dksJ36_siftUpComparable_0 16 rfl rfl)
theorem dJ36_siftUpComparable_17 : decode cJ36_siftUpComparable 17 = .ok (.iload 4, 2) := dk_21 4 (dk_at dksJ36_siftUpComparable_0 17 rfl rfl)
theorem dJ36_siftUpComparable_19 : decode cJ36_siftUpComparable 19 = .ok (.aaload, 1) := dk_50 (dk_at dksJ36_siftUpComparable_0 19 rfl rfl)
theorem dJ36_siftUpComparable_20 : decode cJ36_siftUpComparable 20 = .ok (.astore 5, 2) := dk_58 5 (dk_at dksJ36_siftUpComparable_0 20 rfl rfl)
theorem dJ36_siftUpComparable_22 : decode cJ36_siftUpComparable 22 = .ok (.aload_n 3, 1) := dk_45 (dk_at dksJ36_siftUpComparable_0 22 rfl rfl)
theorem dJ36_siftUpComparable_23 : decode cJ36_siftUpComparable 23 = .ok (.aload 5, 2) := dk_25 5 (dk_at dksJ36_siftUpComparable_1 0 rfl rfl)
theorem dJ36_siftUpComparable_25 : decode cJ36_siftUpComparable 25 = .ok (.invokeinterface 146 2, 5) := by decide +kernel
theorem dJ36_siftUpComparable_30 : decode cJ36_siftUpComparable 30 = .ok (.ifCond .lt 6, 3) := dk_155 0 6 (dk_at dksJ36_siftUpComparable_1 7 rfl rfl)
theorem dJ36_siftUpComparable_33 : decode cJ36_siftUpComparable 33 = .ok (.goto 14, 3) := dk_167 0 14 (dk_at dksJ36_siftUpComparable_1 10 rfl rfl)
theorem dJ36_siftUpComparable_36 : decode cJ36_siftUpComparable 36 = .ok (.aload_n 2, 1) := dk_44 (dk_at dksJ36_siftUpComparable_1 13 rfl rfl)
theorem dJ36_siftUpComparable_37 : decode cJ36_siftUpComparable 37 = .ok (.iload_n 0, 1) := dk_26 (dk_at dksJ36_siftUpComparable_1 14 rfl rfl)
theorem dJ36_siftUpComparable_38 : decode cJ36_siftUpComparable 38 = .ok (.aload 5, 2) := dk_25 5 (dk_at dksJ36_siftUpComparable_1 15 rfl rfl)
theorem dJ36_siftUpComparable_40 : decode cJ36_siftUpComparable 40 = .ok (.aastore, 1) := dk_83 (dk_at dksJ36_siftUpComparable_1 17 rfl rfl)
theorem dJ36_siftUpComparable_41 : decode cJ36_siftUpComparable 41 = .ok (.iload 4, 2) := dk_21 4 (dk_at dksJ36_siftUpComparable_1 18 rfl rfl)
theorem dJ36_siftUpComparable_43 : decode cJ36_siftUpComparable 43 = .ok (.istore_n 0, 1) := dk_59 (dk_at dksJ36_siftUpComparable_1 20 rfl rfl)
theorem dJ36_siftUpComparable_44 : decode cJ36_siftUpComparable 44 = .ok (.goto (-39), 3) := dk_167 255 217 (dk_at dksJ36_siftUpComparable_1 21 rfl rfl)
theorem dJ36_siftUpComparable_47 : decode cJ36_siftUpComparable 47 = .ok (.aload_n 2, 1) := dk_44 (dk_at dksJ36_siftUpComparable_2 0 rfl rfl)
theorem dJ36_siftUpComparable_48 : decode cJ36_siftUpComparable 48 = .ok (.iload_n 0, 1) := dk_26 (dk_at dksJ36_siftUpComparable_2 1 rfl rfl)
theorem dJ36_siftUpComparable_49 : decode cJ36_siftUpComparable 49 = .ok (.aload_n 3, 1) := dk_45 (dk_at dksJ36_siftUpComparable_2 2 rfl rfl)
theorem dJ36_siftUpComparable_50 : decode cJ36_siftUpComparable 50 = .ok (.aastore, 1) := dk_83 (dk_at dksJ36_siftUpComparable_2 3 rfl rfl)
theorem dJ36_siftUpComparable_51 : decode cJ36_siftUpComparable 51 = .ok (.return_, 1) := dk_177 (dk_at dksJ36_siftUpComparable_2 4 rfl rfl)
abbrev cJ36_removeEq : ByteArray := prog_78_method_18_code
def yJ36_removeEq : MethodName := ⟨RJ36, "removeEq", "(Ljava/lang/Object;)V"⟩
def dkwJ36_removeEq_1 : List UInt8 := [166, 0, 12, 42, 29, 182, 0, 111, 87, 167, 0, 9, 132, 3, 1, 167, 255, 231, 177]
abbrev dktJ36_removeEq_1 : List UInt8 := dkwJ36_removeEq_1 ++ []
def dkwJ36_removeEq_0 : List UInt8 := [42, 180, 0, 17, 77, 3, 62, 42, 180, 0, 58, 54, 4, 29, 21, 4, 162, 0, 25, 43, 44, 29, 50]
abbrev dktJ36_removeEq_0 : List UInt8 := dkwJ36_removeEq_0 ++ dktJ36_removeEq_1
theorem dksJ36_removeEq_0 : cJ36_removeEq.data.toList.drop 0 = dktJ36_removeEq_0 := by decide +kernel
theorem dksJ36_removeEq_1 : cJ36_removeEq.data.toList.drop 23 = dktJ36_removeEq_1 := dk_seg dksJ36_removeEq_0 23 rfl rfl
theorem dJ36_removeEq_0 : decode cJ36_removeEq 0 = .ok (.aload_n 0, 1) := dk_42 (dk_at dksJ36_removeEq_0 0 rfl rfl)
theorem dJ36_removeEq_1 : decode cJ36_removeEq 1 = .ok (.getfield 17, 3) := dk_180 0 17 (dk_at dksJ36_removeEq_0 1 rfl rfl)
theorem dJ36_removeEq_4 : decode cJ36_removeEq 4 = .ok (.astore_n 2, 1) := dk_77 (dk_at dksJ36_removeEq_0 4 rfl rfl)
theorem dJ36_removeEq_5 : decode cJ36_removeEq 5 = .ok (.iconst 0, 1) := dk_3 (dk_at dksJ36_removeEq_0 5 rfl rfl)
theorem dJ36_removeEq_6 : decode cJ36_removeEq 6 = .ok (.istore_n 3, 1) := dk_62 (dk_at dksJ36_removeEq_0 6 rfl rfl)
theorem dJ36_removeEq_7 : decode cJ36_removeEq 7 = .ok (.aload_n 0, 1) := dk_42 (dk_at dksJ36_removeEq_0 7 rfl rfl)
theorem dJ36_removeEq_8 : decode cJ36_removeEq 8 = .ok (.getfield 58, 3) := dk_180 0 58 (dk_at dksJ36_removeEq_0 8 rfl rfl)
theorem dJ36_removeEq_11 : decode cJ36_removeEq 11 = .ok (.istore 4, 2) := dk_54 4 (dk_at dksJ36_removeEq_0 11 rfl rfl)
theorem dJ36_removeEq_13 : decode cJ36_removeEq 13 = .ok (.iload_n 3, 1) := dk_29 (dk_at dksJ36_removeEq_0 13 rfl rfl)
theorem dJ36_removeEq_14 : decode cJ36_removeEq 14 = .ok (.iload 4, 2) := dk_21 4 (dk_at dksJ36_removeEq_0 14 rfl rfl)
theorem dJ36_removeEq_16 : decode cJ36_removeEq 16 = .ok (.if_icmp .ge 25, 3) := dk_162 0 25 (dk_at dksJ36_removeEq_0 16 rfl rfl)
theorem dJ36_removeEq_19 : decode cJ36_removeEq 19 = .ok (.aload_n 1, 1) := dk_43 (dk_at dksJ36_removeEq_0 19 rfl rfl)
theorem dJ36_removeEq_20 : decode cJ36_removeEq 20 = .ok (.aload_n 2, 1) := dk_44 (dk_at dksJ36_removeEq_0 20 rfl rfl)
theorem dJ36_removeEq_21 : decode cJ36_removeEq 21 = .ok (.iload_n 3, 1) := dk_29 (dk_at dksJ36_removeEq_0 21 rfl rfl)
theorem dJ36_removeEq_22 : decode cJ36_removeEq 22 = .ok (.aaload, 1) := dk_50 (dk_at dksJ36_removeEq_0 22 rfl rfl)
theorem dJ36_removeEq_23 : decode cJ36_removeEq 23 = .ok (.if_acmp .ne 12, 3) := dk_166 0 12 (dk_at dksJ36_removeEq_1 0 rfl rfl)
theorem dJ36_removeEq_26 : decode cJ36_removeEq 26 = .ok (.aload_n 0, 1) := dk_42 (dk_at dksJ36_removeEq_1 3 rfl rfl)
theorem dJ36_removeEq_27 : decode cJ36_removeEq 27 = .ok (.iload_n 3, 1) := dk_29 (dk_at dksJ36_removeEq_1 4 rfl rfl)
theorem dJ36_removeEq_28 : decode cJ36_removeEq 28 = .ok (.invokevirtual 111, 3) := dk_182 0 111 (dk_at dksJ36_removeEq_1 5 rfl rfl)
theorem dJ36_removeEq_31 : decode cJ36_removeEq 31 = .ok (.pop, 1) := dk_87 (dk_at dksJ36_removeEq_1 8 rfl rfl)
theorem dJ36_removeEq_32 : decode cJ36_removeEq 32 = .ok (.goto 9, 3) := dk_167 0 9 (dk_at dksJ36_removeEq_1 9 rfl rfl)
theorem dJ36_removeEq_35 : decode cJ36_removeEq 35 = .ok (.iinc 3 1, 3) := dk_132 3 1 (dk_at dksJ36_removeEq_1 12 rfl rfl)
theorem dJ36_removeEq_38 : decode cJ36_removeEq 38 = .ok (.goto (-25), 3) := dk_167 255 231 (dk_at dksJ36_removeEq_1 15 rfl rfl)
theorem dJ36_removeEq_41 : decode cJ36_removeEq 41 = .ok (.return_, 1) := dk_177 (dk_at dksJ36_removeEq_1 18 rfl rfl)
abbrev cJ36_init : ByteArray := prog_78_method_4_code
def yJ36_init : MethodName := ⟨RJ36, "<init>", "(ILjava/util/Comparator;)V"⟩
def dkwJ36_init_1 : List UInt8 := [181, 0, 17, 42, 44, 181, 0, 21, 177]
abbrev dktJ36_init_1 : List UInt8 := dkwJ36_init_1 ++ []
def dkwJ36_init_0 : List UInt8 := [42, 183, 0, 7, 27, 4, 162, 0, 11, 187, 0, 12, 89, 183, 0, 14, 191, 42, 27, 189, 0, 15]
abbrev dktJ36_init_0 : List UInt8 := dkwJ36_init_0 ++ dktJ36_init_1
theorem dksJ36_init_0 : cJ36_init.data.toList.drop 0 = dktJ36_init_0 := by decide +kernel
theorem dksJ36_init_1 : cJ36_init.data.toList.drop 22 = dktJ36_init_1 := dk_seg dksJ36_init_0 22 rfl rfl
theorem dJ36_init_0 : decode cJ36_init 0 = .ok (.aload_n 0, 1) := dk_42 (dk_at dksJ36_init_0 0 rfl rfl)
theorem dJ36_init_1 : decode cJ36_init 1 = .ok (.invokespecial 7, 3) := dk_183 0 7 (dk_at dksJ36_init_0 1 rfl rfl)
theorem dJ36_init_4 : decode cJ36_init 4 = .ok (.iload_n 1, 1) := dk_27 (dk_at dksJ36_init_0 4 rfl rfl)
theorem dJ36_init_5 : decode cJ36_init 5 = .ok (.iconst 1, 1) := dk_4 (dk_at dksJ36_init_0 5 rfl rfl)
theorem dJ36_init_6 : decode cJ36_init 6 = .ok (.if_icmp .ge 11, 3) := dk_162 0 11 (dk_at dksJ36_init_0 6 rfl rfl)
theorem dJ36_init_9 : decode cJ36_init 9 = .ok (.new 12, 3) := dk_187 0 12 (dk_at dksJ36_init_0 9 rfl rfl)
theorem dJ36_init_12 : decode cJ36_init 12 = .ok (.dup, 1) := dk_89 (dk_at dksJ36_init_0 12 rfl rfl)
theorem dJ36_init_13 : decode cJ36_init 13 = .ok (.invokespecial 14, 3) := dk_183 0 14 (dk_at dksJ36_init_0 13 rfl rfl)
theorem dJ36_init_16 : decode cJ36_init 16 = .ok (.athrow, 1) := dk_191 (dk_at dksJ36_init_0 16 rfl rfl)
theorem dJ36_init_17 : decode cJ36_init 17 = .ok (.aload_n 0, 1) := dk_42 (dk_at dksJ36_init_0 17 rfl rfl)
theorem dJ36_init_18 : decode cJ36_init 18 = .ok (.iload_n 1, 1) := dk_27 (dk_at dksJ36_init_0 18 rfl rfl)
theorem dJ36_init_19 : decode cJ36_init 19 = .ok (.anewarray 15, 3) := dk_189 0 15 (dk_at dksJ36_init_0 19 rfl rfl)
theorem dJ36_init_22 : decode cJ36_init 22 = .ok (.putfield 17, 3) := dk_181 0 17 (dk_at dksJ36_init_1 0 rfl rfl)
theorem dJ36_init_25 : decode cJ36_init 25 = .ok (.aload_n 0, 1) := dk_42 (dk_at dksJ36_init_1 3 rfl rfl)
theorem dJ36_init_26 : decode cJ36_init 26 = .ok (.aload_n 2, 1) := dk_44 (dk_at dksJ36_init_1 4 rfl rfl)
theorem dJ36_init_27 : decode cJ36_init 27 = .ok (.putfield 21, 3) := dk_181 0 21 (dk_at dksJ36_init_1 5 rfl rfl)
theorem dJ36_init_30 : decode cJ36_init 30 = .ok (.return_, 1) := dk_177 (dk_at dksJ36_init_1 8 rfl rfl)
abbrev cJ36_add : ByteArray := prog_78_method_13_code
def yJ36_add : MethodName := ⟨RJ36, "add", "(Ljava/lang/Object;)Z"⟩
def dkwJ36_add_0 : List UInt8 := [42, 43, 182, 0, 89, 172]
abbrev dktJ36_add_0 : List UInt8 := dkwJ36_add_0 ++ []
theorem dksJ36_add_0 : cJ36_add.data.toList.drop 0 = dktJ36_add_0 := by decide +kernel
theorem dJ36_add_0 : decode cJ36_add 0 = .ok (.aload_n 0, 1) := dk_42 (dk_at dksJ36_add_0 0 rfl rfl)
theorem dJ36_add_1 : decode cJ36_add 1 = .ok (.aload_n 1, 1) := dk_43 (dk_at dksJ36_add_0 1 rfl rfl)
theorem dJ36_add_2 : decode cJ36_add 2 = .ok (.invokevirtual 89, 3) := dk_182 0 89 (dk_at dksJ36_add_0 2 rfl rfl)
theorem dJ36_add_5 : decode cJ36_add 5 = .ok (.ireturn, 1) := dk_172 (dk_at dksJ36_add_0 5 rfl rfl)
abbrev cJ36_offer : ByteArray := prog_78_method_14_code
def yJ36_offer : MethodName := ⟨RJ36, "offer", "(Ljava/lang/Object;)Z"⟩
def dkwJ36_offer_2 : List UInt8 := [182, 0, 100, 42, 28, 4, 96, 181, 0, 58, 4, 172]
abbrev dktJ36_offer_2 : List UInt8 := dkwJ36_offer_2 ++ []
def dkwJ36_offer_1 : List UInt8 := [180, 0, 58, 61, 28, 42, 180, 0, 17, 190, 161, 0, 10, 42, 28, 4, 96, 182, 0, 96, 42, 28, 43]
abbrev dktJ36_offer_1 : List UInt8 := dkwJ36_offer_1 ++ dktJ36_offer_2
def dkwJ36_offer_0 : List UInt8 := [43, 199, 0, 11, 187, 0, 74, 89, 183, 0, 76, 191, 42, 89, 180, 0, 93, 4, 96, 181, 0, 93, 42]
abbrev dktJ36_offer_0 : List UInt8 := dkwJ36_offer_0 ++ dktJ36_offer_1
theorem dksJ36_offer_0 : cJ36_offer.data.toList.drop 0 = dktJ36_offer_0 := by decide +kernel
theorem dksJ36_offer_1 : cJ36_offer.data.toList.drop 23 = dktJ36_offer_1 := dk_seg dksJ36_offer_0 23 rfl rfl
theorem dksJ36_offer_2 : cJ36_offer.data.toList.drop 46 = dktJ36_offer_2 := dk_seg dksJ36_offer_1 23 rfl rfl
theorem dJ36_offer_0 : decode cJ36_offer 0 = .ok (.aload_n 1, 1) := dk_43 (dk_at dksJ36_offer_0 0 rfl rfl)
theorem dJ36_offer_1 : decode cJ36_offer 1 = .ok (.ifnonnull 11, 3) := dk_199 0 11 (dk_at dksJ36_offer_0 1 rfl rfl)
theorem dJ36_offer_4 : decode cJ36_offer 4 = .ok (.new 74, 3) := dk_187 0 74 (dk_at dksJ36_offer_0 4 rfl rfl)
theorem dJ36_offer_7 : decode cJ36_offer 7 = .ok (.dup, 1) := dk_89 (dk_at dksJ36_offer_0 7 rfl rfl)
theorem dJ36_offer_8 : decode cJ36_offer 8 = .ok (.invokespecial 76, 3) := dk_183 0 76 (dk_at dksJ36_offer_0 8 rfl rfl)
theorem dJ36_offer_11 : decode cJ36_offer 11 = .ok (.athrow, 1) := dk_191 (dk_at dksJ36_offer_0 11 rfl rfl)
theorem dJ36_offer_12 : decode cJ36_offer 12 = .ok (.aload_n 0, 1) := dk_42 (dk_at dksJ36_offer_0 12 rfl rfl)
theorem dJ36_offer_13 : decode cJ36_offer 13 = .ok (.dup, 1) := dk_89 (dk_at dksJ36_offer_0 13 rfl rfl)
theorem dJ36_offer_14 : decode cJ36_offer 14 = .ok (.getfield 93, 3) := dk_180 0 93 (dk_at dksJ36_offer_0 14 rfl rfl)
theorem dJ36_offer_17 : decode cJ36_offer 17 = .ok (.iconst 1, 1) := dk_4 (dk_at dksJ36_offer_0 17 rfl rfl)
theorem dJ36_offer_18 : decode cJ36_offer 18 = .ok (.iadd, 1) := dk_96 (dk_at dksJ36_offer_0 18 rfl rfl)
theorem dJ36_offer_19 : decode cJ36_offer 19 = .ok (.putfield 93, 3) := dk_181 0 93 (dk_at dksJ36_offer_0 19 rfl rfl)
theorem dJ36_offer_22 : decode cJ36_offer 22 = .ok (.aload_n 0, 1) := dk_42 (dk_at dksJ36_offer_0 22 rfl rfl)
theorem dJ36_offer_23 : decode cJ36_offer 23 = .ok (.getfield 58, 3) := dk_180 0 58 (dk_at dksJ36_offer_1 0 rfl rfl)
theorem dJ36_offer_26 : decode cJ36_offer 26 = .ok (.istore_n 2, 1) := dk_61 (dk_at dksJ36_offer_1 3 rfl rfl)
theorem dJ36_offer_27 : decode cJ36_offer 27 = .ok (.iload_n 2, 1) := dk_28 (dk_at dksJ36_offer_1 4 rfl rfl)
theorem dJ36_offer_28 : decode cJ36_offer 28 = .ok (.aload_n 0, 1) := dk_42 (dk_at dksJ36_offer_1 5 rfl rfl)
theorem dJ36_offer_29 : decode cJ36_offer 29 = .ok (.getfield 17, 3) := dk_180 0 17 (dk_at dksJ36_offer_1 6 rfl rfl)
theorem dJ36_offer_32 : decode cJ36_offer 32 = .ok (.arraylength, 1) := dk_190 (dk_at dksJ36_offer_1 9 rfl rfl)
theorem dJ36_offer_33 : decode cJ36_offer 33 = .ok (.if_icmp .lt 10, 3) := dk_161 0 10 (dk_at dksJ36_offer_1 10 rfl rfl)
theorem dJ36_offer_36 : decode cJ36_offer 36 = .ok (.aload_n 0, 1) := dk_42 (dk_at dksJ36_offer_1 13 rfl rfl)
theorem dJ36_offer_37 : decode cJ36_offer 37 = .ok (.iload_n 2, 1) := dk_28 (dk_at dksJ36_offer_1 14 rfl rfl)
theorem dJ36_offer_38 : decode cJ36_offer 38 = .ok (.iconst 1, 1) := dk_4 (dk_at dksJ36_offer_1 15 rfl rfl)
theorem dJ36_offer_39 : decode cJ36_offer 39 = .ok (.iadd, 1) := dk_96 (dk_at dksJ36_offer_1 16 rfl rfl)
theorem dJ36_offer_40 : decode cJ36_offer 40 = .ok (.invokevirtual 96, 3) := dk_182 0 96 (dk_at dksJ36_offer_1 17 rfl rfl)
theorem dJ36_offer_43 : decode cJ36_offer 43 = .ok (.aload_n 0, 1) := dk_42 (dk_at dksJ36_offer_1 20 rfl rfl)
theorem dJ36_offer_44 : decode cJ36_offer 44 = .ok (.iload_n 2, 1) := dk_28 (dk_at dksJ36_offer_1 21 rfl rfl)
theorem dJ36_offer_45 : decode cJ36_offer 45 = .ok (.aload_n 1, 1) := dk_43 (dk_at dksJ36_offer_1 22 rfl rfl)
theorem dJ36_offer_46 : decode cJ36_offer 46 = .ok (.invokevirtual 100, 3) := dk_182 0 100 (dk_at dksJ36_offer_2 0 rfl rfl)
theorem dJ36_offer_49 : decode cJ36_offer 49 = .ok (.aload_n 0, 1) := dk_42 (dk_at dksJ36_offer_2 3 rfl rfl)
theorem dJ36_offer_50 : decode cJ36_offer 50 = .ok (.iload_n 2, 1) := dk_28 (dk_at dksJ36_offer_2 4 rfl rfl)
theorem dJ36_offer_51 : decode cJ36_offer 51 = .ok (.iconst 1, 1) := dk_4 (dk_at dksJ36_offer_2 5 rfl rfl)
theorem dJ36_offer_52 : decode cJ36_offer 52 = .ok (.iadd, 1) := dk_96 (dk_at dksJ36_offer_2 6 rfl rfl)
theorem dJ36_offer_53 : decode cJ36_offer 53 = .ok (.putfield 58, 3) := dk_181 0 58 (dk_at dksJ36_offer_2 7 rfl rfl)
theorem dJ36_offer_56 : decode cJ36_offer 56 = .ok (.iconst 1, 1) := dk_4 (dk_at dksJ36_offer_2 10 rfl rfl)
theorem dJ36_offer_57 : decode cJ36_offer 57 = .ok (.ireturn, 1) := dk_172 (dk_at dksJ36_offer_2 11 rfl rfl)
abbrev cJ36_grow : ByteArray := prog_78_method_12_code
def yJ36_grow : MethodName := ⟨RJ36, "grow", "(I)V"⟩
def dkwJ36_grow_1 : List UInt8 := [122, 184, 0, 80, 62, 42, 42, 180, 0, 17, 29, 184, 0, 86, 181, 0, 17, 177]
abbrev dktJ36_grow_1 : List UInt8 := dkwJ36_grow_1 ++ []
def dkwJ36_grow_0 : List UInt8 := [42, 180, 0, 17, 190, 61, 28, 27, 28, 100, 28, 16, 64, 162, 0, 9, 28, 5, 96, 167, 0, 6, 28, 4]
abbrev dktJ36_grow_0 : List UInt8 := dkwJ36_grow_0 ++ dktJ36_grow_1
theorem dksJ36_grow_0 : cJ36_grow.data.toList.drop 0 = dktJ36_grow_0 := by decide +kernel
theorem dksJ36_grow_1 : cJ36_grow.data.toList.drop 24 = dktJ36_grow_1 := dk_seg dksJ36_grow_0 24 rfl rfl
theorem dJ36_grow_0 : decode cJ36_grow 0 = .ok (.aload_n 0, 1) := dk_42 (dk_at dksJ36_grow_0 0 rfl rfl)
theorem dJ36_grow_1 : decode cJ36_grow 1 = .ok (.getfield 17, 3) := dk_180 0 17 (dk_at dksJ36_grow_0 1 rfl rfl)
theorem dJ36_grow_4 : decode cJ36_grow 4 = .ok (.arraylength, 1) := dk_190 (dk_at dksJ36_grow_0 4 rfl rfl)
theorem dJ36_grow_5 : decode cJ36_grow 5 = .ok (.istore_n 2, 1) := dk_61 (dk_at dksJ36_grow_0 5 rfl rfl)
theorem dJ36_grow_6 : decode cJ36_grow 6 = .ok (.iload_n 2, 1) := dk_28 (dk_at dksJ36_grow_0 6 rfl rfl)
theorem dJ36_grow_7 : decode cJ36_grow 7 = .ok (.iload_n 1, 1) := dk_27 (dk_at dksJ36_grow_0 7 rfl rfl)
theorem dJ36_grow_8 : decode cJ36_grow 8 = .ok (.iload_n 2, 1) := dk_28 (dk_at dksJ36_grow_0 8 rfl rfl)
theorem dJ36_grow_9 : decode cJ36_grow 9 = .ok (.isub, 1) := dk_100 (dk_at dksJ36_grow_0 9 rfl rfl)
theorem dJ36_grow_10 : decode cJ36_grow 10 = .ok (.iload_n 2, 1) := dk_28 (dk_at dksJ36_grow_0 10 rfl rfl)
theorem dJ36_grow_11 : decode cJ36_grow 11 = .ok (.bipush 64, 2) := dk_16 64 (dk_at dksJ36_grow_0 11 rfl rfl)
theorem dJ36_grow_13 : decode cJ36_grow 13 = .ok (.if_icmp .ge 9, 3) := dk_162 0 9 (dk_at dksJ36_grow_0 13 rfl rfl)
theorem dJ36_grow_16 : decode cJ36_grow 16 = .ok (.iload_n 2, 1) := dk_28 (dk_at dksJ36_grow_0 16 rfl rfl)
theorem dJ36_grow_17 : decode cJ36_grow 17 = .ok (.iconst 2, 1) := dk_5 (dk_at dksJ36_grow_0 17 rfl rfl)
theorem dJ36_grow_18 : decode cJ36_grow 18 = .ok (.iadd, 1) := dk_96 (dk_at dksJ36_grow_0 18 rfl rfl)
theorem dJ36_grow_19 : decode cJ36_grow 19 = .ok (.goto 6, 3) := dk_167 0 6 (dk_at dksJ36_grow_0 19 rfl rfl)
theorem dJ36_grow_22 : decode cJ36_grow 22 = .ok (.iload_n 2, 1) := dk_28 (dk_at dksJ36_grow_0 22 rfl rfl)
theorem dJ36_grow_23 : decode cJ36_grow 23 = .ok (.iconst 1, 1) := dk_4 (dk_at dksJ36_grow_0 23 rfl rfl)
theorem dJ36_grow_24 : decode cJ36_grow 24 = .ok (.ishr, 1) := dk_122 (dk_at dksJ36_grow_1 0 rfl rfl)
theorem dJ36_grow_25 : decode cJ36_grow 25 = .ok (.invokestatic 80, 3) := dk_184 0 80 (dk_at dksJ36_grow_1 1 rfl rfl)
theorem dJ36_grow_28 : decode cJ36_grow 28 = .ok (.istore_n 3, 1) := dk_62 (dk_at dksJ36_grow_1 4 rfl rfl)
theorem dJ36_grow_29 : decode cJ36_grow 29 = .ok (.aload_n 0, 1) := dk_42 (dk_at dksJ36_grow_1 5 rfl rfl)
theorem dJ36_grow_30 : decode cJ36_grow 30 = .ok (.aload_n 0, 1) := dk_42 (dk_at dksJ36_grow_1 6 rfl rfl)
theorem dJ36_grow_31 : decode cJ36_grow 31 = .ok (.getfield 17, 3) := dk_180 0 17 (dk_at dksJ36_grow_1 7 rfl rfl)
theorem dJ36_grow_34 : decode cJ36_grow 34 = .ok (.iload_n 3, 1) := dk_29 (dk_at dksJ36_grow_1 10 rfl rfl)
theorem dJ36_grow_35 : decode cJ36_grow 35 = .ok (.invokestatic 86, 3) := dk_184 0 86 (dk_at dksJ36_grow_1 11 rfl rfl)
theorem dJ36_grow_38 : decode cJ36_grow 38 = .ok (.putfield 17, 3) := dk_181 0 17 (dk_at dksJ36_grow_1 14 rfl rfl)
theorem dJ36_grow_41 : decode cJ36_grow 41 = .ok (.return_, 1) := dk_177 (dk_at dksJ36_grow_1 17 rfl rfl)
abbrev cJ36_size : ByteArray := prog_78_method_23_code
def yJ36_size : MethodName := ⟨RJ36, "size", "()I"⟩
theorem dJ36_size_0 : decode cJ36_size 0 = .ok (.aload_n 0, 1) := by decide +kernel
theorem dJ36_size_1 : decode cJ36_size 1 = .ok (.getfield 58, 3) := by decide +kernel
theorem dJ36_size_4 : decode cJ36_size 4 = .ok (.ireturn, 1) := by decide +kernel
abbrev cJ36_iterator : ByteArray := prog_78_method_22_code
def yJ36_iterator : MethodName := ⟨RJ36, "iterator", "()Ljava/util/Iterator;"⟩
def dkwJ36_iterator_0 : List UInt8 := [187, 0, 121, 89, 42, 183, 0, 123, 176]
abbrev dktJ36_iterator_0 : List UInt8 := dkwJ36_iterator_0 ++ []
theorem dksJ36_iterator_0 : cJ36_iterator.data.toList.drop 0 = dktJ36_iterator_0 := by decide +kernel
theorem dJ36_iterator_0 : decode cJ36_iterator 0 = .ok (.new 121, 3) := dk_187 0 121 (dk_at dksJ36_iterator_0 0 rfl rfl)
theorem dJ36_iterator_3 : decode cJ36_iterator 3 = .ok (.dup, 1) := dk_89 (dk_at dksJ36_iterator_0 3 rfl rfl)
theorem dJ36_iterator_4 : decode cJ36_iterator 4 = .ok (.aload_n 0, 1) := dk_42 (dk_at dksJ36_iterator_0 4 rfl rfl)
theorem dJ36_iterator_5 : decode cJ36_iterator 5 = .ok (.invokespecial 123, 3) := dk_183 0 123 (dk_at dksJ36_iterator_0 5 rfl rfl)
theorem dJ36_iterator_8 : decode cJ36_iterator 8 = .ok (.areturn, 1) := dk_176 (dk_at dksJ36_iterator_0 8 rfl rfl)
abbrev cJ36_toArray : ByteArray := prog_78_method_20_code
def yJ36_toArray : MethodName := ⟨RJ36, "toArray", "()[Ljava/lang/Object;"⟩
def dkwJ36_toArray_0 : List UInt8 := [42, 180, 0, 17, 42, 180, 0, 58, 184, 0, 86, 176]
abbrev dktJ36_toArray_0 : List UInt8 := dkwJ36_toArray_0 ++ []
theorem dksJ36_toArray_0 : cJ36_toArray.data.toList.drop 0 = dktJ36_toArray_0 := by decide +kernel
theorem dJ36_toArray_0 : decode cJ36_toArray 0 = .ok (.aload_n 0, 1) := dk_42 (dk_at dksJ36_toArray_0 0 rfl rfl)
theorem dJ36_toArray_1 : decode cJ36_toArray 1 = .ok (.getfield 17, 3) := dk_180 0 17 (dk_at dksJ36_toArray_0 1 rfl rfl)
theorem dJ36_toArray_4 : decode cJ36_toArray 4 = .ok (.aload_n 0, 1) := dk_42 (dk_at dksJ36_toArray_0 4 rfl rfl)
theorem dJ36_toArray_5 : decode cJ36_toArray 5 = .ok (.getfield 58, 3) := dk_180 0 58 (dk_at dksJ36_toArray_0 5 rfl rfl)
theorem dJ36_toArray_8 : decode cJ36_toArray 8 = .ok (.invokestatic 86, 3) := dk_184 0 86 (dk_at dksJ36_toArray_0 8 rfl rfl)
theorem dJ36_toArray_11 : decode cJ36_toArray 11 = .ok (.areturn, 1) := dk_176 (dk_at dksJ36_toArray_0 11 rfl rfl)
theorem q156 : (Jvm.Cond.initialized "java/util/PriorityQueue") ∈ lw_all := lw_g (lw_at lw_m1 60 rfl) rfl
theorem q1101 : (Jvm.Cond.selects "java/util/PriorityQueue" ({ cls := "java/lang/Object", name := "getClass", desc := "()Ljava/lang/Class;" } : Jvm.MethodName) ({ cls := "java/lang/Object", name := "getClass", desc := "()Ljava/lang/Class;" } : Jvm.MethodName)) ∈ lw_all := lw_g (lw_at lw_m5 45 rfl) rfl
theorem q2151 : (Jvm.Cond.instanceMethod ({ cls := "java/util/PriorityQueue", name := "removeAt", desc := "(I)Ljava/lang/Object;" } : Jvm.MethodName)) ∈ lw_all := lw_g (lw_at lw_m9 135 rfl) rfl
theorem q2152 : (Jvm.Cond.selects "java/util/PriorityQueue" ({ cls := "java/util/PriorityQueue", name := "removeAt", desc := "(I)Ljava/lang/Object;" } : Jvm.MethodName) ({ cls := "java/util/PriorityQueue", name := "removeAt", desc := "(I)Ljava/lang/Object;" } : Jvm.MethodName)) ∈ lw_all := lw_g (lw_at lw_m9 136 rfl) rfl
theorem q2153 : (Jvm.Cond.code ({ cls := "java/util/PriorityQueue", name := "removeAt", desc := "(I)Ljava/lang/Object;" } : Jvm.MethodName) prog_78_method_26_code (5 : Nat) (Option.some (Jvm.ClassFile.FieldType.object "java/lang/Object"))) ∈ lw_all := lw_g (lw_at lw_m9 137 rfl) rfl
theorem q2154 : (Jvm.Cond.methodLink "java/util/PriorityQueue" (133 : Nat) ({ cls := "java/util/PriorityQueue", name := "siftDown", desc := "(ILjava/lang/Object;)V" } : Jvm.MethodName)) ∈ lw_all := lw_g (lw_at lw_m9 138 rfl) rfl
theorem q2155 : (Jvm.Cond.privateMethod ({ cls := "java/util/PriorityQueue", name := "siftDown", desc := "(ILjava/lang/Object;)V" } : Jvm.MethodName)) ∈ lw_tbl := lw_at lw_m9 139 rfl
theorem q2156 : (Jvm.Cond.instanceMethod ({ cls := "java/util/PriorityQueue", name := "siftDown", desc := "(ILjava/lang/Object;)V" } : Jvm.MethodName)) ∈ lw_all := lw_g (lw_at lw_m9 140 rfl) rfl
theorem q2157 : (Jvm.Cond.instantiable "java/util/PriorityQueue" (4 : Nat)) ∈ lw_all := lw_g (lw_at lw_m9 141 rfl) rfl
theorem q2158 : (Jvm.Cond.code ({ cls := "java/util/PriorityQueue", name := "siftDown", desc := "(ILjava/lang/Object;)V" } : Jvm.MethodName) prog_78_method_30_code (3 : Nat) (Option.none : Option Jvm.ClassFile.FieldType)) ∈ lw_all := lw_g (lw_at lw_m9 142 rfl) rfl
theorem q2159 : (Jvm.Cond.methodLink "java/util/PriorityQueue" (129 : Nat) ({ cls := "java/util/PriorityQueue", name := "siftDownUsingComparator", desc := "(ILjava/lang/Object;[Ljava/lang/Object;ILjava/util/Comparator;)V" } : Jvm.MethodName)) ∈ lw_all := lw_g (lw_at lw_m9 143 rfl) rfl
theorem q2160 : (Jvm.Cond.static ({ cls := "java/util/PriorityQueue", name := "siftDownUsingComparator", desc := "(ILjava/lang/Object;[Ljava/lang/Object;ILjava/util/Comparator;)V" } : Jvm.MethodName)) ∈ lw_all := lw_g (lw_at lw_m9 144 rfl) rfl
theorem q2161 : (Jvm.Cond.code ({ cls := "java/util/PriorityQueue", name := "siftDownUsingComparator", desc := "(ILjava/lang/Object;[Ljava/lang/Object;ILjava/util/Comparator;)V" } : Jvm.MethodName) prog_78_method_32_code (9 : Nat) (Option.none : Option Jvm.ClassFile.FieldType)) ∈ lw_all := lw_g (lw_at lw_m9 145 rfl) rfl
theorem q2162 : (Jvm.Cond.interfaceEntry "java/util/PriorityQueue" (149 : Nat)) ∈ lw_tbl := lw_at lw_m9 146 rfl
theorem q2163 : (Jvm.Cond.methodLink "java/util/PriorityQueue" (149 : Nat) ({ cls := "java/util/Comparator", name := "compare", desc := "(Ljava/lang/Object;Ljava/lang/Object;)I" } : Jvm.MethodName)) ∈ lw_all := lw_g (lw_at lw_m9 147 rfl) rfl
theorem q2174 : (Jvm.Cond.methodLink "java/util/PriorityQueue" (125 : Nat) ({ cls := "java/util/PriorityQueue", name := "siftDownComparable", desc := "(ILjava/lang/Object;[Ljava/lang/Object;I)V" } : Jvm.MethodName)) ∈ lw_all := lw_g (lw_at lw_m9 158 rfl) rfl
theorem q2175 : (Jvm.Cond.static ({ cls := "java/util/PriorityQueue", name := "siftDownComparable", desc := "(ILjava/lang/Object;[Ljava/lang/Object;I)V" } : Jvm.MethodName)) ∈ lw_all := lw_g (lw_at lw_m9 159 rfl) rfl
theorem q2176 : (Jvm.Cond.code ({ cls := "java/util/PriorityQueue", name := "siftDownComparable", desc := "(ILjava/lang/Object;[Ljava/lang/Object;I)V" } : Jvm.MethodName) prog_78_method_31_code (9 : Nat) (Option.none : Option Jvm.ClassFile.FieldType)) ∈ lw_all := lw_g (lw_at lw_m9 160 rfl) rfl
theorem q2177 : (Jvm.Cond.classLink "java/util/PriorityQueue" (144 : Nat) "java/lang/Comparable") ∈ lw_all := lw_g (lw_at lw_m9 161 rfl) rfl
theorem q2178 : (Jvm.Cond.interfaceEntry "java/util/PriorityQueue" (146 : Nat)) ∈ lw_tbl := lw_at lw_m9 162 rfl
theorem q2179 : (Jvm.Cond.methodLink "java/util/PriorityQueue" (146 : Nat) ({ cls := "java/lang/Comparable", name := "compareTo", desc := "(Ljava/lang/Object;)I" } : Jvm.MethodName)) ∈ lw_all := lw_g (lw_at lw_m9 163 rfl) rfl
theorem q2373 : (Jvm.Cond.methodLink "java/util/PriorityQueue" (100 : Nat) ({ cls := "java/util/PriorityQueue", name := "siftUp", desc := "(ILjava/lang/Object;)V" } : Jvm.MethodName)) ∈ lw_all := lw_g (lw_at lw_m10 117 rfl) rfl
theorem q2374 : (Jvm.Cond.privateMethod ({ cls := "java/util/PriorityQueue", name := "siftUp", desc := "(ILjava/lang/Object;)V" } : Jvm.MethodName)) ∈ lw_tbl := lw_at lw_m10 118 rfl
theorem q2375 : (Jvm.Cond.instanceMethod ({ cls := "java/util/PriorityQueue", name := "siftUp", desc := "(ILjava/lang/Object;)V" } : Jvm.MethodName)) ∈ lw_all := lw_g (lw_at lw_m10 119 rfl) rfl
theorem q2376 : (Jvm.Cond.code ({ cls := "java/util/PriorityQueue", name := "siftUp", desc := "(ILjava/lang/Object;)V" } : Jvm.MethodName) prog_78_method_27_code (3 : Nat) (Option.none : Option Jvm.ClassFile.FieldType)) ∈ lw_all := lw_g (lw_at lw_m10 120 rfl) rfl
theorem q2377 : (Jvm.Cond.methodLink "java/util/PriorityQueue" (136 : Nat) ({ cls := "java/util/PriorityQueue", name := "siftUpUsingComparator", desc := "(ILjava/lang/Object;[Ljava/lang/Object;Ljava/util/Comparator;)V" } : Jvm.MethodName)) ∈ lw_all := lw_g (lw_at lw_m10 121 rfl) rfl
theorem q2378 : (Jvm.Cond.static ({ cls := "java/util/PriorityQueue", name := "siftUpUsingComparator", desc := "(ILjava/lang/Object;[Ljava/lang/Object;Ljava/util/Comparator;)V" } : Jvm.MethodName)) ∈ lw_all := lw_g (lw_at lw_m10 122 rfl) rfl
theorem q2379 : (Jvm.Cond.code ({ cls := "java/util/PriorityQueue", name := "siftUpUsingComparator", desc := "(ILjava/lang/Object;[Ljava/lang/Object;Ljava/util/Comparator;)V" } : Jvm.MethodName) prog_78_method_29_code (6 : Nat) (Option.none : Option Jvm.ClassFile.FieldType)) ∈ lw_all := lw_g (lw_at lw_m10 123 rfl) rfl
theorem q2380 : (Jvm.Cond.methodLink "java/util/PriorityQueue" (140 : Nat) ({ cls := "java/util/PriorityQueue", name := "siftUpComparable", desc := "(ILjava/lang/Object;[Ljava/lang/Object;)V" } : Jvm.MethodName)) ∈ lw_all := lw_g (lw_at lw_m10 124 rfl) rfl
theorem q2381 : (Jvm.Cond.static ({ cls := "java/util/PriorityQueue", name := "siftUpComparable", desc := "(ILjava/lang/Object;[Ljava/lang/Object;)V" } : Jvm.MethodName)) ∈ lw_all := lw_g (lw_at lw_m10 125 rfl) rfl
theorem q2382 : (Jvm.Cond.code ({ cls := "java/util/PriorityQueue", name := "siftUpComparable", desc := "(ILjava/lang/Object;[Ljava/lang/Object;)V" } : Jvm.MethodName) prog_78_method_28_code (6 : Nat) (Option.none : Option Jvm.ClassFile.FieldType)) ∈ lw_all := lw_g (lw_at lw_m10 126 rfl) rfl
theorem q2424 : (Jvm.Cond.instanceMethod ({ cls := "java/util/PriorityQueue", name := "removeEq", desc := "(Ljava/lang/Object;)V" } : Jvm.MethodName)) ∈ lw_all := lw_g (lw_at lw_m10 168 rfl) rfl
theorem q2425 : (Jvm.Cond.selects "java/util/PriorityQueue" ({ cls := "java/util/PriorityQueue", name := "removeEq", desc := "(Ljava/lang/Object;)V" } : Jvm.MethodName) ({ cls := "java/util/PriorityQueue", name := "removeEq", desc := "(Ljava/lang/Object;)V" } : Jvm.MethodName)) ∈ lw_all := lw_g (lw_at lw_m10 169 rfl) rfl
theorem q2426 : (Jvm.Cond.code ({ cls := "java/util/PriorityQueue", name := "removeEq", desc := "(Ljava/lang/Object;)V" } : Jvm.MethodName) prog_78_method_18_code (5 : Nat) (Option.none : Option Jvm.ClassFile.FieldType)) ∈ lw_all := lw_g (lw_at lw_m10 170 rfl) rfl
theorem q2427 : (Jvm.Cond.methodLink "java/util/PriorityQueue" (111 : Nat) ({ cls := "java/util/PriorityQueue", name := "removeAt", desc := "(I)Ljava/lang/Object;" } : Jvm.MethodName)) ∈ lw_all := lw_g (lw_at lw_m10 171 rfl) rfl
theorem q2445 : (Jvm.Cond.instanceMethod ({ cls := "java/util/PriorityQueue", name := "<init>", desc := "(ILjava/util/Comparator;)V" } : Jvm.MethodName)) ∈ lw_all := lw_g (lw_at lw_m10 189 rfl) rfl
theorem q2446 : (Jvm.Cond.code ({ cls := "java/util/PriorityQueue", name := "<init>", desc := "(ILjava/util/Comparator;)V" } : Jvm.MethodName) prog_78_method_4_code (3 : Nat) (Option.none : Option Jvm.ClassFile.FieldType)) ∈ lw_all := lw_g (lw_at lw_m10 190 rfl) rfl
theorem q2447 : (Jvm.Cond.methodLink "java/util/PriorityQueue" (7 : Nat) ({ cls := "java/util/AbstractQueue", name := "<init>", desc := "()V" } : Jvm.MethodName)) ∈ lw_all := lw_g (lw_at lw_m10 191 rfl) rfl
theorem q2451 : (Jvm.Cond.classLink "java/util/PriorityQueue" (15 : Nat) "java/lang/Object") ∈ lw_all := lw_g (lw_at lw_m10 195 rfl) rfl
theorem q2453 : (Jvm.Cond.fieldLink "java/util/PriorityQueue" (17 : Nat) "java/util/PriorityQueue" "queue" "[Ljava/lang/Object;") ∈ lw_all := lw_g (lw_at lw_m10 197 rfl) rfl
theorem q2455 : (Jvm.Cond.fieldLink "java/util/PriorityQueue" (58 : Nat) "java/util/PriorityQueue" "size" "I") ∈ lw_all := lw_g (lw_at lw_m10 199 rfl) rfl
theorem q2456 : (Jvm.Cond.fieldLink "java/util/PriorityQueue" (21 : Nat) "java/util/PriorityQueue" "comparator" "Ljava/util/Comparator;") ∈ lw_all := lw_g (lw_at lw_m10 200 rfl) rfl
theorem q2458 : (Jvm.Cond.fieldLink "java/util/PriorityQueue" (93 : Nat) "java/util/PriorityQueue" "modCount" "I") ∈ lw_all := lw_g (lw_at lw_m10 202 rfl) rfl
theorem q2459 : (Jvm.Cond.lays "java/util/PriorityQueue" "java/util/PriorityQueue" "queue" "[Ljava/lang/Object;") ∈ lw_all := lw_g (lw_at lw_m10 203 rfl) rfl
theorem q2460 : (Jvm.Cond.soleField "java/util/PriorityQueue" "queue") ∈ lw_all := lw_g (lw_at lw_m10 204 rfl) rfl
theorem q2461 : (Jvm.Cond.lays "java/util/PriorityQueue" "java/util/PriorityQueue" "size" "I") ∈ lw_all := lw_g (lw_at lw_m10 205 rfl) rfl
theorem q2462 : (Jvm.Cond.soleField "java/util/PriorityQueue" "size") ∈ lw_all := lw_g (lw_at lw_m10 206 rfl) rfl
theorem q2463 : (Jvm.Cond.laysFinal "java/util/PriorityQueue" "java/util/PriorityQueue" "comparator" "Ljava/util/Comparator;") ∈ lw_all := lw_g (lw_at lw_m10 207 rfl) rfl
theorem q2464 : (Jvm.Cond.soleField "java/util/PriorityQueue" "comparator") ∈ lw_all := lw_g (lw_at lw_m10 208 rfl) rfl
theorem q2465 : (Jvm.Cond.lays "java/util/PriorityQueue" "java/util/PriorityQueue" "modCount" "I") ∈ lw_all := lw_g (lw_at lw_m10 209 rfl) rfl
theorem q2466 : (Jvm.Cond.soleField "java/util/PriorityQueue" "modCount") ∈ lw_all := lw_g (lw_at lw_m10 210 rfl) rfl
theorem q2467 : (Jvm.Cond.superclass "java/util/PriorityQueue" "java/util/AbstractQueue") ∈ lw_all := lw_g (lw_at lw_m10 211 rfl) rfl
theorem q2469 : (Jvm.Cond.instanceMethod ({ cls := "java/util/PriorityQueue", name := "add", desc := "(Ljava/lang/Object;)Z" } : Jvm.MethodName)) ∈ lw_all := lw_g (lw_at lw_m10 213 rfl) rfl
theorem q2470 : (Jvm.Cond.selects "java/util/PriorityQueue" ({ cls := "java/util/PriorityQueue", name := "add", desc := "(Ljava/lang/Object;)Z" } : Jvm.MethodName) ({ cls := "java/util/PriorityQueue", name := "add", desc := "(Ljava/lang/Object;)Z" } : Jvm.MethodName)) ∈ lw_all := lw_g (lw_at lw_m10 214 rfl) rfl
theorem q2471 : (Jvm.Cond.code ({ cls := "java/util/PriorityQueue", name := "add", desc := "(Ljava/lang/Object;)Z" } : Jvm.MethodName) prog_78_method_13_code (2 : Nat) (Option.some Jvm.ClassFile.FieldType.boolean)) ∈ lw_all := lw_g (lw_at lw_m10 215 rfl) rfl
theorem q2472 : (Jvm.Cond.methodLink "java/util/PriorityQueue" (89 : Nat) ({ cls := "java/util/PriorityQueue", name := "offer", desc := "(Ljava/lang/Object;)Z" } : Jvm.MethodName)) ∈ lw_all := lw_g (lw_at lw_m10 216 rfl) rfl
theorem q2473 : (Jvm.Cond.instanceMethod ({ cls := "java/util/PriorityQueue", name := "offer", desc := "(Ljava/lang/Object;)Z" } : Jvm.MethodName)) ∈ lw_all := lw_g (lw_at lw_m10 217 rfl) rfl
theorem q2474 : (Jvm.Cond.selects "java/util/PriorityQueue" ({ cls := "java/util/PriorityQueue", name := "offer", desc := "(Ljava/lang/Object;)Z" } : Jvm.MethodName) ({ cls := "java/util/PriorityQueue", name := "offer", desc := "(Ljava/lang/Object;)Z" } : Jvm.MethodName)) ∈ lw_all := lw_g (lw_at lw_m10 218 rfl) rfl
theorem q2475 : (Jvm.Cond.code ({ cls := "java/util/PriorityQueue", name := "offer", desc := "(Ljava/lang/Object;)Z" } : Jvm.MethodName) prog_78_method_14_code (3 : Nat) (Option.some Jvm.ClassFile.FieldType.boolean)) ∈ lw_all := lw_g (lw_at lw_m10 219 rfl) rfl
theorem q2476 : (Jvm.Cond.classLink "java/util/PriorityQueue" (74 : Nat) "java/lang/NullPointerException") ∈ lw_all := lw_g (lw_at lw_m10 220 rfl) rfl
theorem q2477 : (Jvm.Cond.methodLink "java/util/PriorityQueue" (76 : Nat) ({ cls := "java/lang/NullPointerException", name := "<init>", desc := "()V" } : Jvm.MethodName)) ∈ lw_all := lw_g (lw_at lw_m10 221 rfl) rfl
theorem q2478 : (Jvm.Cond.methodLink "java/util/PriorityQueue" (96 : Nat) ({ cls := "java/util/PriorityQueue", name := "grow", desc := "(I)V" } : Jvm.MethodName)) ∈ lw_all := lw_g (lw_at lw_m10 222 rfl) rfl
theorem q2479 : (Jvm.Cond.privateMethod ({ cls := "java/util/PriorityQueue", name := "grow", desc := "(I)V" } : Jvm.MethodName)) ∈ lw_tbl := lw_at lw_m10 223 rfl
theorem q2480 : (Jvm.Cond.instanceMethod ({ cls := "java/util/PriorityQueue", name := "grow", desc := "(I)V" } : Jvm.MethodName)) ∈ lw_all := lw_g (lw_at lw_m10 224 rfl) rfl
theorem q2481 : (Jvm.Cond.code ({ cls := "java/util/PriorityQueue", name := "grow", desc := "(I)V" } : Jvm.MethodName) prog_78_method_12_code (4 : Nat) (Option.none : Option Jvm.ClassFile.FieldType)) ∈ lw_all := lw_g (lw_at lw_m10 225 rfl) rfl
theorem q2482 : (Jvm.Cond.methodLink "java/util/PriorityQueue" (80 : Nat) ({ cls := "jdk/internal/util/ArraysSupport", name := "newLength", desc := "(III)I" } : Jvm.MethodName)) ∈ lw_all := lw_g (lw_at lw_m10 226 rfl) rfl
theorem q2483 : (Jvm.Cond.methodLink "java/util/PriorityQueue" (86 : Nat) ({ cls := "java/util/Arrays", name := "copyOf", desc := "([Ljava/lang/Object;I)[Ljava/lang/Object;" } : Jvm.MethodName)) ∈ lw_all := lw_g (lw_at lw_m10 227 rfl) rfl
theorem q2485 : (Jvm.Cond.instanceMethod ({ cls := "java/util/PriorityQueue", name := "size", desc := "()I" } : Jvm.MethodName)) ∈ lw_all := lw_g (lw_at lw_m10 229 rfl) rfl
theorem q2486 : (Jvm.Cond.selects "java/util/PriorityQueue" ({ cls := "java/util/PriorityQueue", name := "size", desc := "()I" } : Jvm.MethodName) ({ cls := "java/util/PriorityQueue", name := "size", desc := "()I" } : Jvm.MethodName)) ∈ lw_all := lw_g (lw_at lw_m10 230 rfl) rfl
theorem q2487 : (Jvm.Cond.code ({ cls := "java/util/PriorityQueue", name := "size", desc := "()I" } : Jvm.MethodName) prog_78_method_23_code (1 : Nat) (Option.some Jvm.ClassFile.FieldType.int)) ∈ lw_all := lw_g (lw_at lw_m10 231 rfl) rfl
theorem q2575 : (Jvm.Cond.instanceMethod ({ cls := "java/util/PriorityQueue", name := "iterator", desc := "()Ljava/util/Iterator;" } : Jvm.MethodName)) ∈ lw_all := lw_g (lw_at lw_m11 79 rfl) rfl
theorem q2576 : (Jvm.Cond.selects "java/util/PriorityQueue" ({ cls := "java/util/PriorityQueue", name := "iterator", desc := "()Ljava/util/Iterator;" } : Jvm.MethodName) ({ cls := "java/util/PriorityQueue", name := "iterator", desc := "()Ljava/util/Iterator;" } : Jvm.MethodName)) ∈ lw_all := lw_g (lw_at lw_m11 80 rfl) rfl
theorem q2577 : (Jvm.Cond.code ({ cls := "java/util/PriorityQueue", name := "iterator", desc := "()Ljava/util/Iterator;" } : Jvm.MethodName) prog_78_method_22_code (1 : Nat) (Option.some (Jvm.ClassFile.FieldType.object "java/util/Iterator"))) ∈ lw_all := lw_g (lw_at lw_m11 81 rfl) rfl
theorem q2578 : (Jvm.Cond.classLink "java/util/PriorityQueue" (121 : Nat) "java/util/PriorityQueue$Itr") ∈ lw_all := lw_g (lw_at lw_m11 82 rfl) rfl
theorem q2580 : (Jvm.Cond.methodLink "java/util/PriorityQueue" (123 : Nat) ({ cls := "java/util/PriorityQueue$Itr", name := "<init>", desc := "(Ljava/util/PriorityQueue;)V" } : Jvm.MethodName)) ∈ lw_all := lw_g (lw_at lw_m11 84 rfl) rfl
theorem q2734 : (Jvm.Cond.castable "java/util/PriorityQueue" "java/util/Collection") ∈ lw_tbl := lw_at lw_m11 238 rfl
theorem q2735 : (Jvm.Cond.selects "java/util/PriorityQueue" ({ cls := "java/util/Collection", name := "toArray", desc := "()[Ljava/lang/Object;" } : Jvm.MethodName) ({ cls := "java/util/PriorityQueue", name := "toArray", desc := "()[Ljava/lang/Object;" } : Jvm.MethodName)) ∈ lw_all := lw_g (lw_at lw_m11 239 rfl) rfl
theorem q2736 : (Jvm.Cond.unhidden "java/util/PriorityQueue" "toArray" "()[Ljava/lang/Object;") ∈ lw_tbl := lw_at lw_m12 0 rfl
theorem q2737 : (Jvm.Cond.instanceMethod ({ cls := "java/util/PriorityQueue", name := "toArray", desc := "()[Ljava/lang/Object;" } : Jvm.MethodName)) ∈ lw_all := lw_g (lw_at lw_m12 1 rfl) rfl
theorem q2738 : (Jvm.Cond.publicMethod ({ cls := "java/util/PriorityQueue", name := "toArray", desc := "()[Ljava/lang/Object;" } : Jvm.MethodName)) ∈ lw_tbl := lw_at lw_m12 2 rfl
theorem q2739 : (Jvm.Cond.code ({ cls := "java/util/PriorityQueue", name := "toArray", desc := "()[Ljava/lang/Object;" } : Jvm.MethodName) prog_78_method_20_code (1 : Nat) (Option.some (Jvm.ClassFile.FieldType.array (Jvm.ClassFile.FieldType.object "java/lang/Object")))) ∈ lw_all := lw_g (lw_at lw_m12 3 rfl) rfl
theorem q3347 : (Jvm.Cond.castable "java/util/PriorityQueue" "java/lang/Object") ∈ lw_tbl := lw_at lw_m14 131 rfl
theorem in_J36 : ∀ w ∈ wsJ360, w ∈ lw_all := lw_in wsJ360 [2459, 2461, 2463, 2465] (by decide +kernel) (by decide +kernel)
/-! java/util/PriorityQueue$Itr -/
def RJ39 : String := "java/util/PriorityQueue$Itr"
def TJ39 : u_T := fun k => match k with
  | 0 => ("java/util/PriorityQueue$Itr", "cursor", "I", false)
  | 1 => ("java/util/PriorityQueue$Itr", "lastRet", "I", false)
  | 2 => ("java/util/PriorityQueue$Itr", "forgetMeNot", "Ljava/util/ArrayDeque;", false)
  | 3 => ("java/util/PriorityQueue$Itr", "lastRetElt", "Ljava/lang/Object;", false)
  | 4 => ("java/util/PriorityQueue$Itr", "expectedModCount", "I", false)
  | _ => ("java/util/PriorityQueue$Itr", "this$0", "Ljava/util/PriorityQueue;", true)
def tyJ39 : Nat → FieldType := fun k => match k with
  | 0 => .int
  | 1 => .int
  | 2 => .object "java/util/ArrayDeque"
  | 3 => .object "java/lang/Object"
  | 4 => .int
  | _ => .object "java/util/PriorityQueue"
abbrev wsJ390 : List Cond := u_ws RJ39 TJ39 6
theorem nmJ39 : ∀ a, a < 6 → ∀ b, b < 6 → a ≠ b → (TJ39 a).2.1 ≠ (TJ39 b).2.1 := by decide +kernel
theorem tyJ39_ok : ∀ k, k < 6 → parseFieldDescriptor (TJ39 k).2.2.1 = some (tyJ39 k) := by decide +kernel
abbrev cJ39_hasNext : ByteArray := prog_79_method_2_code
def yJ39_hasNext : MethodName := ⟨RJ39, "hasNext", "()Z"⟩
def dkwJ39_hasNext_1 : List UInt8 := [180, 0, 31, 182, 0, 35, 154, 0, 7, 4, 167, 0, 4, 3, 172]
abbrev dktJ39_hasNext_1 : List UInt8 := dkwJ39_hasNext_1 ++ []
def dkwJ39_hasNext_0 : List UInt8 := [42, 180, 0, 25, 42, 180, 0, 1, 180, 0, 28, 161, 0, 20, 42, 180, 0, 31, 198, 0, 17, 42]
abbrev dktJ39_hasNext_0 : List UInt8 := dkwJ39_hasNext_0 ++ dktJ39_hasNext_1
theorem dksJ39_hasNext_0 : cJ39_hasNext.data.toList.drop 0 = dktJ39_hasNext_0 := by decide +kernel
theorem dksJ39_hasNext_1 : cJ39_hasNext.data.toList.drop 22 = dktJ39_hasNext_1 := dk_seg dksJ39_hasNext_0 22 rfl rfl
theorem dJ39_hasNext_0 : decode cJ39_hasNext 0 = .ok (.aload_n 0, 1) := dk_42 (dk_at dksJ39_hasNext_0 0 rfl rfl)
theorem dJ39_hasNext_1 : decode cJ39_hasNext 1 = .ok (.getfield 25, 3) := dk_180 0 25 (dk_at dksJ39_hasNext_0 1 rfl rfl)
theorem dJ39_hasNext_4 : decode cJ39_hasNext 4 = .ok (.aload_n 0, 1) := dk_42 (dk_at dksJ39_hasNext_0 4 rfl rfl)
theorem dJ39_hasNext_5 : decode cJ39_hasNext 5 = .ok (.getfield 1, 3) := dk_180 0 1 (dk_at dksJ39_hasNext_0 5 rfl rfl)
theorem dJ39_hasNext_8 : decode cJ39_hasNext 8 = .ok (.getfield 28, 3) := dk_180 0 28 (dk_at dksJ39_hasNext_0 8 rfl rfl)
theorem dJ39_hasNext_11 : decode cJ39_hasNext 11 = .ok (.if_icmp .lt 20, 3) := dk_161 0 20 (dk_at dksJ39_hasNext_0 11 rfl rfl)
theorem dJ39_hasNext_14 : decode cJ39_hasNext 14 = .ok (.aload_n 0, 1) := dk_42 (dk_at dksJ39_hasNext_0 14 rfl rfl)
theorem dJ39_hasNext_15 : decode cJ39_hasNext 15 = .ok (.getfield 31, 3) := dk_180 0 31 (dk_at dksJ39_hasNext_0 15 rfl rfl)
theorem dJ39_hasNext_18 : decode cJ39_hasNext 18 = .ok (.ifnull 17, 3) := dk_198 0 17 (dk_at dksJ39_hasNext_0 18 rfl rfl)
theorem dJ39_hasNext_21 : decode cJ39_hasNext 21 = .ok (.aload_n 0, 1) := dk_42 (dk_at dksJ39_hasNext_0 21 rfl rfl)
theorem dJ39_hasNext_22 : decode cJ39_hasNext 22 = .ok (.getfield 31, 3) := dk_180 0 31 (dk_at dksJ39_hasNext_1 0 rfl rfl)
theorem dJ39_hasNext_25 : decode cJ39_hasNext 25 = .ok (.invokevirtual 35, 3) := dk_182 0 35 (dk_at dksJ39_hasNext_1 3 rfl rfl)
theorem dJ39_hasNext_28 : decode cJ39_hasNext 28 = .ok (.ifCond .ne 7, 3) := dk_154 0 7 (dk_at dksJ39_hasNext_1 6 rfl rfl)
theorem dJ39_hasNext_31 : decode cJ39_hasNext 31 = .ok (.iconst 1, 1) := dk_4 (dk_at dksJ39_hasNext_1 9 rfl rfl)
theorem dJ39_hasNext_32 : decode cJ39_hasNext 32 = .ok (.goto 4, 3) := dk_167 0 4 (dk_at dksJ39_hasNext_1 10 rfl rfl)
theorem dJ39_hasNext_35 : decode cJ39_hasNext 35 = .ok (.iconst 0, 1) := dk_3 (dk_at dksJ39_hasNext_1 13 rfl rfl)
theorem dJ39_hasNext_36 : decode cJ39_hasNext 36 = .ok (.ireturn, 1) := dk_172 (dk_at dksJ39_hasNext_1 14 rfl rfl)
abbrev cJ39_next : ByteArray := prog_79_method_3_code
def yJ39_next : MethodName := ⟨RJ39, "next", "()Ljava/lang/Object;"⟩
def dkwJ39_next_4 : List UInt8 := [180, 0, 52, 176, 187, 0, 56, 89, 183, 0, 58, 191]
abbrev dktJ39_next_4 : List UInt8 := dkwJ39_next_4 ++ []
def dkwJ39_next_3 : List UInt8 := [181, 0, 13, 42, 42, 180, 0, 31, 182, 0, 48, 181, 0, 52, 42, 180, 0, 52, 198, 0, 8, 42]
abbrev dktJ39_next_3 : List UInt8 := dkwJ39_next_3 ++ dktJ39_next_4
def dkwJ39_next_2 : List UInt8 := [180, 0, 25, 90, 4, 96, 181, 0, 25, 90, 181, 0, 13, 50, 176, 42, 180, 0, 31, 198, 0, 31, 42, 2]
abbrev dktJ39_next_2 : List UInt8 := dkwJ39_next_2 ++ dktJ39_next_3
def dkwJ39_next_1 : List UInt8 := [180, 0, 25, 42, 180, 0, 1, 180, 0, 28, 162, 0, 28, 42, 180, 0, 1, 180, 0, 44, 42, 42, 89]
abbrev dktJ39_next_1 : List UInt8 := dkwJ39_next_1 ++ dktJ39_next_2
def dkwJ39_next_0 : List UInt8 := [42, 180, 0, 22, 42, 180, 0, 1, 180, 0, 17, 159, 0, 11, 187, 0, 41, 89, 183, 0, 43, 191, 42]
abbrev dktJ39_next_0 : List UInt8 := dkwJ39_next_0 ++ dktJ39_next_1
theorem dksJ39_next_0 : cJ39_next.data.toList.drop 0 = dktJ39_next_0 := by decide +kernel
theorem dksJ39_next_1 : cJ39_next.data.toList.drop 23 = dktJ39_next_1 := dk_seg dksJ39_next_0 23 rfl rfl
theorem dksJ39_next_2 : cJ39_next.data.toList.drop 46 = dktJ39_next_2 := dk_seg dksJ39_next_1 23 rfl rfl
theorem dksJ39_next_3 : cJ39_next.data.toList.drop 70 = dktJ39_next_3 := dk_seg dksJ39_next_2 24 rfl rfl
theorem dksJ39_next_4 : cJ39_next.data.toList.drop 92 = dktJ39_next_4 := dk_seg dksJ39_next_3 22 rfl rfl
theorem dJ39_next_0 : decode cJ39_next 0 = .ok (.aload_n 0, 1) := dk_42 (dk_at dksJ39_next_0 0 rfl rfl)
theorem dJ39_next_1 : decode cJ39_next 1 = .ok (.getfield 22, 3) := dk_180 0 22 (dk_at dksJ39_next_0 1 rfl rfl)
theorem dJ39_next_4 : decode cJ39_next 4 = .ok (.aload_n 0, 1) := dk_42 (dk_at dksJ39_next_0 4 rfl rfl)
theorem dJ39_next_5 : decode cJ39_next 5 = .ok (.getfield 1, 3) := dk_180 0 1 (dk_at dksJ39_next_0 5 rfl rfl)
theorem dJ39_next_8 : decode cJ39_next 8 = .ok (.getfield 17, 3) := dk_180 0 17 (dk_at dksJ39_next_0 8 rfl rfl)
theorem dJ39_next_11 : decode cJ39_next 11 = .ok (.if_icmp .eq 11, 3) := dk_159 0 11 (dk_at dksJ39_next_0 11 rfl rfl)
theorem dJ39_next_14 : decode cJ39_next 14 = .ok (.new 41, 3) := dk_187 0 41 (dk_at dksJ39_next_0 14 rfl rfl)
theorem dJ39_next_17 : decode cJ39_next 17 = .ok (.dup, 1) := dk_89 (dk_at dksJ39_next_0 17 rfl rfl)
theorem dJ39_next_18 : decode cJ39_next 18 = .ok (.invokespecial 43, 3) := dk_183 0 43 (dk_at dksJ39_next_0 18 rfl rfl)
theorem dJ39_next_21 : decode cJ39_next 21 = .ok (.athrow, 1) := dk_191 (dk_at dksJ39_next_0 21 rfl rfl)
theorem dJ39_next_22 : decode cJ39_next 22 = .ok (.aload_n 0, 1) := dk_42 (dk_at dksJ39_next_0 22 rfl rfl)
theorem dJ39_next_23 : decode cJ39_next 23 = .ok (.getfield 25, 3) := dk_180 0 25 (dk_at dksJ39_next_1 0 rfl rfl)
theorem dJ39_next_26 : decode cJ39_next 26 = .ok (.aload_n 0, 1) := dk_42 (dk_at dksJ39_next_1 3 rfl rfl)
theorem dJ39_next_27 : decode cJ39_next 27 = .ok (.getfield 1, 3) := dk_180 0 1 (dk_at dksJ39_next_1 4 rfl rfl)
theorem dJ39_next_30 : decode cJ39_next 30 = .ok (.getfield 28, 3) := dk_180 0 28 (dk_at dksJ39_next_1 7 rfl rfl)
theorem dJ39_next_33 : decode cJ39_next 33 = .ok (.if_icmp .ge 28, 3) := dk_162 0 28 (dk_at dksJ39_next_1 10 rfl rfl)
theorem dJ39_next_36 : decode cJ39_next 36 = .ok (.aload_n 0, 1) := dk_42 (dk_at dksJ39_next_1 13 rfl rfl)
theorem dJ39_next_37 : decode cJ39_next 37 = .ok (.getfield 1, 3) := dk_180 0 1 (dk_at dksJ39_next_1 14 rfl rfl)
theorem dJ39_next_40 : decode cJ39_next 40 = .ok (.getfield 44, 3) := dk_180 0 44 (dk_at dksJ39_next_1 17 rfl rfl)
theorem dJ39_next_43 : decode cJ39_next 43 = .ok (.aload_n 0, 1) := dk_42 (dk_at dksJ39_next_1 20 rfl rfl)
theorem dJ39_next_44 : decode cJ39_next 44 = .ok (.aload_n 0, 1) := dk_42 (dk_at dksJ39_next_1 21 rfl rfl)
theorem dJ39_next_45 : decode cJ39_next 45 = .ok (.dup, 1) := dk_89 (dk_at dksJ39_next_1 22 rfl rfl)
theorem dJ39_next_46 : decode cJ39_next 46 = .ok (.getfield 25, 3) := dk_180 0 25 (dk_at dksJ39_next_2 0 rfl rfl)
theorem dJ39_next_49 : decode cJ39_next 49 = .ok (.dup_x1, 1) := dk_90 (dk_at dksJ39_next_2 3 rfl rfl)
theorem dJ39_next_50 : decode cJ39_next 50 = .ok (.iconst 1, 1) := dk_4 (dk_at dksJ39_next_2 4 rfl rfl)
theorem dJ39_next_51 : decode cJ39_next 51 = .ok (.iadd, 1) := dk_96 (dk_at dksJ39_next_2 5 rfl rfl)
theorem dJ39_next_52 : decode cJ39_next 52 = .ok (.putfield 25, 3) := dk_181 0 25 (dk_at dksJ39_next_2 6 rfl rfl)
theorem dJ39_next_55 : decode cJ39_next 55 = .ok (.dup_x1, 1) := dk_90 (dk_at dksJ39_next_2 9 rfl rfl)
theorem dJ39_next_56 : decode cJ39_next 56 = .ok (.putfield 13, 3) := dk_181 0 13 (dk_at dksJ39_next_2 10 rfl rfl)
theorem dJ39_next_59 : decode cJ39_next 59 = .ok (.aaload, 1) := dk_50 (dk_at dksJ39_next_2 13 rfl rfl)
theorem dJ39_next_60 : decode cJ39_next 60 = .ok (.areturn, 1) := dk_176 (dk_at dksJ39_next_2 14 rfl rfl)
theorem dJ39_next_61 : decode cJ39_next 61 = .ok (.aload_n 0, 1) := dk_42 (dk_at dksJ39_next_2 15 rfl rfl)
theorem dJ39_next_62 : decode cJ39_next 62 = .ok (.getfield 31, 3) := dk_180 0 31 (dk_at dksJ39_next_2 16 rfl rfl)
theorem dJ39_next_65 : decode cJ39_next 65 = .ok (.ifnull 31, 3) := dk_198 0 31 (dk_at dksJ39_next_2 19 rfl rfl)
theorem dJ39_next_68 : decode cJ39_next 68 = .ok (.aload_n 0, 1) := dk_42 (dk_at dksJ39_next_2 22 rfl rfl)
theorem dJ39_next_69 : decode cJ39_next 69 = .ok (.iconst (-1), 1) := dk_2 (dk_at dksJ39_next_2 23 rfl rfl)
theorem dJ39_next_70 : decode cJ39_next 70 = .ok (.putfield 13, 3) := dk_181 0 13 (dk_at dksJ39_next_3 0 rfl rfl)
theorem dJ39_next_73 : decode cJ39_next 73 = .ok (.aload_n 0, 1) := dk_42 (dk_at dksJ39_next_3 3 rfl rfl)
theorem dJ39_next_74 : decode cJ39_next 74 = .ok (.aload_n 0, 1) := dk_42 (dk_at dksJ39_next_3 4 rfl rfl)
theorem dJ39_next_75 : decode cJ39_next 75 = .ok (.getfield 31, 3) := dk_180 0 31 (dk_at dksJ39_next_3 5 rfl rfl)
theorem dJ39_next_78 : decode cJ39_next 78 = .ok (.invokevirtual 48, 3) := dk_182 0 48 (dk_at dksJ39_next_3 8 rfl rfl)
theorem dJ39_next_81 : decode cJ39_next 81 = .ok (.putfield 52, 3) := dk_181 0 52 (dk_at dksJ39_next_3 11 rfl rfl)
theorem dJ39_next_84 : decode cJ39_next 84 = .ok (.aload_n 0, 1) := dk_42 (dk_at dksJ39_next_3 14 rfl rfl)
theorem dJ39_next_85 : decode cJ39_next 85 = .ok (.getfield 52, 3) := dk_180 0 52 (dk_at dksJ39_next_3 15 rfl rfl)
theorem dJ39_next_88 : decode cJ39_next 88 = .ok (.ifnull 8, 3) := dk_198 0 8 (dk_at dksJ39_next_3 18 rfl rfl)
theorem dJ39_next_91 : decode cJ39_next 91 = .ok (.aload_n 0, 1) := dk_42 (dk_at dksJ39_next_3 21 rfl rfl)
theorem dJ39_next_92 : decode cJ39_next 92 = .ok (.getfield 52, 3) := dk_180 0 52 (dk_at dksJ39_next_4 0 rfl rfl)
theorem dJ39_next_95 : decode cJ39_next 95 = .ok (.areturn, 1) := dk_176 (dk_at dksJ39_next_4 3 rfl rfl)
theorem dJ39_next_96 : decode cJ39_next 96 = .ok (.new 56, 3) := dk_187 0 56 (dk_at dksJ39_next_4 4 rfl rfl)
theorem dJ39_next_99 : decode cJ39_next 99 = .ok (.dup, 1) := dk_89 (dk_at dksJ39_next_4 7 rfl rfl)
theorem dJ39_next_100 : decode cJ39_next 100 = .ok (.invokespecial 58, 3) := dk_183 0 58 (dk_at dksJ39_next_4 8 rfl rfl)
theorem dJ39_next_103 : decode cJ39_next 103 = .ok (.athrow, 1) := dk_191 (dk_at dksJ39_next_4 11 rfl rfl)
abbrev cJ39_remove : ByteArray := prog_79_method_4_code
def yJ39_remove : MethodName := ⟨RJ39, "remove", "()V"⟩
def dkwJ39_remove_5 : List UInt8 := [167, 0, 11, 187, 0, 72, 89, 183, 0, 74, 191, 42, 42, 180, 0, 1, 180, 0, 17, 181, 0, 22, 177]
abbrev dktJ39_remove_5 : List UInt8 := dkwJ39_remove_5 ++ []
def dkwJ39_remove_4 : List UInt8 := [180, 0, 52, 198, 0, 22, 42, 180, 0, 1, 42, 180, 0, 52, 182, 0, 68, 42, 1, 181, 0, 52]
abbrev dktJ39_remove_4 : List UInt8 := dkwJ39_remove_4 ++ dktJ39_remove_5
def dkwJ39_remove_3 : List UInt8 := [42, 187, 0, 36, 89, 183, 0, 63, 181, 0, 31, 42, 180, 0, 31, 43, 182, 0, 64, 87, 167, 0, 37, 42]
abbrev dktJ39_remove_3 : List UInt8 := dkwJ39_remove_3 ++ dktJ39_remove_4
def dkwJ39_remove_2 : List UInt8 := [43, 199, 0, 16, 42, 89, 180, 0, 25, 4, 100, 181, 0, 25, 167, 0, 30, 42, 180, 0, 31, 199, 0, 14]
abbrev dktJ39_remove_2 : List UInt8 := dkwJ39_remove_2 ++ dktJ39_remove_3
def dkwJ39_remove_1 : List UInt8 := [180, 0, 13, 2, 159, 0, 67, 42, 180, 0, 1, 42, 180, 0, 13, 182, 0, 59, 76, 42, 2, 181, 0, 13]
abbrev dktJ39_remove_1 : List UInt8 := dkwJ39_remove_1 ++ dktJ39_remove_2
def dkwJ39_remove_0 : List UInt8 := [42, 180, 0, 22, 42, 180, 0, 1, 180, 0, 17, 159, 0, 11, 187, 0, 41, 89, 183, 0, 43, 191, 42]
abbrev dktJ39_remove_0 : List UInt8 := dkwJ39_remove_0 ++ dktJ39_remove_1
theorem dksJ39_remove_0 : cJ39_remove.data.toList.drop 0 = dktJ39_remove_0 := by decide +kernel
theorem dksJ39_remove_1 : cJ39_remove.data.toList.drop 23 = dktJ39_remove_1 := dk_seg dksJ39_remove_0 23 rfl rfl
theorem dksJ39_remove_2 : cJ39_remove.data.toList.drop 47 = dktJ39_remove_2 := dk_seg dksJ39_remove_1 24 rfl rfl
theorem dksJ39_remove_3 : cJ39_remove.data.toList.drop 71 = dktJ39_remove_3 := dk_seg dksJ39_remove_2 24 rfl rfl
theorem dksJ39_remove_4 : cJ39_remove.data.toList.drop 95 = dktJ39_remove_4 := dk_seg dksJ39_remove_3 24 rfl rfl
theorem dksJ39_remove_5 : cJ39_remove.data.toList.drop 117 = dktJ39_remove_5 := dk_seg dksJ39_remove_4 22 rfl rfl
theorem dJ39_remove_0 : decode cJ39_remove 0 = .ok (.aload_n 0, 1) := dk_42 (dk_at dksJ39_remove_0 0 rfl rfl)
theorem dJ39_remove_1 : decode cJ39_remove 1 = .ok (.getfield 22, 3) := dk_180 0 22 (dk_at dksJ39_remove_0 1 rfl rfl)
theorem dJ39_remove_4 : decode cJ39_remove 4 = .ok (.aload_n 0, 1) := dk_42 (dk_at dksJ39_remove_0 4 rfl rfl)
theorem dJ39_remove_5 : decode cJ39_remove 5 = .ok (.getfield 1, 3) := dk_180 0 1 (dk_at dksJ39_remove_0 5 rfl rfl)
theorem dJ39_remove_8 : decode cJ39_remove 8 = .ok (.getfield 17, 3) := dk_180 0 17 (dk_at dksJ39_remove_0 8 rfl rfl)
theorem dJ39_remove_11 : decode cJ39_remove 11 = .ok (.if_icmp .eq 11, 3) := dk_159 0 11 (dk_at dksJ39_remove_0 11 rfl rfl)
theorem dJ39_remove_14 : decode cJ39_remove 14 = .ok (.new 41, 3) := dk_187 0 41 (dk_at dksJ39_remove_0 14 rfl rfl)
theorem dJ39_remove_17 : decode cJ39_remove 17 = .ok (.dup, 1) := dk_89 (dk_at dksJ39_remove_0 17 rfl rfl)
theorem dJ39_remove_18 : decode cJ39_remove 18 = .ok (.invokespecial 43, 3) := dk_183 0 43 (dk_at dksJ39_remove_0 18 rfl rfl)
theorem dJ39_remove_21 : decode cJ39_remove 21 = .ok (.athrow, 1) := dk_191 (dk_at dksJ39_remove_0 21 rfl rfl)
theorem dJ39_remove_22 : decode cJ39_remove 22 = .ok (.aload_n 0, 1) := dk_42 (dk_at dksJ39_remove_0 22 rfl rfl)
theorem dJ39_remove_23 : decode cJ39_remove 23 = .ok (.getfield 13, 3) := dk_180 0 13 (dk_at dksJ39_remove_1 0 rfl rfl)
theorem dJ39_remove_26 : decode cJ39_remove 26 = .ok (.iconst (-1), 1) := dk_2 (dk_at dksJ39_remove_1 3 rfl rfl)
theorem dJ39_remove_27 : decode cJ39_remove 27 = .ok (.if_icmp .eq 67, 3) := dk_159 0 67 (dk_at dksJ39_remove_1 4 rfl rfl)
theorem dJ39_remove_30 : decode cJ39_remove 30 = .ok (.aload_n 0, 1) := dk_42 (dk_at dksJ39_remove_1 7 rfl rfl)
theorem dJ39_remove_31 : decode cJ39_remove 31 = .ok (.getfield 1, 3) := dk_180 0 1 (dk_at dksJ39_remove_1 8 rfl rfl)
theorem dJ39_remove_34 : decode cJ39_remove 34 = .ok (.aload_n 0, 1) := dk_42 (dk_at dksJ39_remove_1 11 rfl rfl)
theorem dJ39_remove_35 : decode cJ39_remove 35 = .ok (.getfield 13, 3) := dk_180 0 13 (dk_at dksJ39_remove_1 12 rfl rfl)
theorem dJ39_remove_38 : decode cJ39_remove 38 = .ok (.invokevirtual 59, 3) := dk_182 0 59 (dk_at dksJ39_remove_1 15 rfl rfl)
theorem dJ39_remove_41 : decode cJ39_remove 41 = .ok (.astore_n 1, 1) := dk_76 (dk_at dksJ39_remove_1 18 rfl rfl)
theorem dJ39_remove_42 : decode cJ39_remove 42 = .ok (.aload_n 0, 1) := dk_42 (dk_at dksJ39_remove_1 19 rfl rfl)
theorem dJ39_remove_43 : decode cJ39_remove 43 = .ok (.iconst (-1), 1) := dk_2 (dk_at dksJ39_remove_1 20 rfl rfl)
theorem dJ39_remove_44 : decode cJ39_remove 44 = .ok (.putfield 13, 3) := dk_181 0 13 (dk_at dksJ39_remove_1 21 rfl rfl)
theorem dJ39_remove_47 : decode cJ39_remove 47 = .ok (.aload_n 1, 1) := dk_43 (dk_at dksJ39_remove_2 0 rfl rfl)
theorem dJ39_remove_48 : decode cJ39_remove 48 = .ok (.ifnonnull 16, 3) := dk_199 0 16 (dk_at dksJ39_remove_2 1 rfl rfl)
theorem dJ39_remove_51 : decode cJ39_remove 51 = .ok (.aload_n 0, 1) := dk_42 (dk_at dksJ39_remove_2 4 rfl rfl)
theorem dJ39_remove_52 : decode cJ39_remove 52 = .ok (.dup, 1) := dk_89 (dk_at dksJ39_remove_2 5 rfl rfl)
theorem dJ39_remove_53 : decode cJ39_remove 53 = .ok (.getfield 25, 3) := dk_180 0 25 (dk_at dksJ39_remove_2 6 rfl rfl)
theorem dJ39_remove_56 : decode cJ39_remove 56 = .ok (.iconst 1, 1) := dk_4 (dk_at dksJ39_remove_2 9 rfl rfl)
theorem dJ39_remove_57 : decode cJ39_remove 57 = .ok (.isub, 1) := dk_100 (dk_at dksJ39_remove_2 10 rfl rfl)
theorem dJ39_remove_58 : decode cJ39_remove 58 = .ok (.putfield 25, 3) := dk_181 0 25 (dk_at dksJ39_remove_2 11 rfl rfl)
theorem dJ39_remove_61 : decode cJ39_remove 61 = .ok (.goto 30, 3) := dk_167 0 30 (dk_at dksJ39_remove_2 14 rfl rfl)
theorem dJ39_remove_64 : decode cJ39_remove 64 = .ok (.aload_n 0, 1) := dk_42 (dk_at dksJ39_remove_2 17 rfl rfl)
theorem dJ39_remove_65 : decode cJ39_remove 65 = .ok (.getfield 31, 3) := dk_180 0 31 (dk_at dksJ39_remove_2 18 rfl rfl)
theorem dJ39_remove_68 : decode cJ39_remove 68 = .ok (.ifnonnull 14, 3) := dk_199 0 14 (dk_at dksJ39_remove_2 21 rfl rfl)
theorem dJ39_remove_71 : decode cJ39_remove 71 = .ok (.aload_n 0, 1) := dk_42 (dk_at dksJ39_remove_3 0 rfl rfl)
theorem dJ39_remove_72 : decode cJ39_remove 72 = .ok (.new 36, 3) := dk_187 0 36 (dk_at dksJ39_remove_3 1 rfl rfl)
theorem dJ39_remove_75 : decode cJ39_remove 75 = .ok (.dup, 1) := dk_89 (dk_at dksJ39_remove_3 4 rfl rfl)
theorem dJ39_remove_76 : decode cJ39_remove 76 = .ok (.invokespecial 63, 3) := dk_183 0 63 (dk_at dksJ39_remove_3 5 rfl rfl)
theorem dJ39_remove_79 : decode cJ39_remove 79 = .ok (.putfield 31, 3) := dk_181 0 31 (dk_at dksJ39_remove_3 8 rfl rfl)
theorem dJ39_remove_82 : decode cJ39_remove 82 = .ok (.aload_n 0, 1) := dk_42 (dk_at dksJ39_remove_3 11 rfl rfl)
theorem dJ39_remove_83 : decode cJ39_remove 83 = .ok (.getfield 31, 3) := dk_180 0 31 (dk_at dksJ39_remove_3 12 rfl rfl)
theorem dJ39_remove_86 : decode cJ39_remove 86 = .ok (.aload_n 1, 1) := dk_43 (dk_at dksJ39_remove_3 15 rfl rfl)
theorem dJ39_remove_87 : decode cJ39_remove 87 = .ok (.invokevirtual 64, 3) := dk_182 0 64 (dk_at dksJ39_remove_3 16 rfl rfl)
theorem dJ39_remove_90 : decode cJ39_remove 90 = .ok (.pop, 1) := dk_87 (dk_at dksJ39_remove_3 19 rfl rfl)
theorem dJ39_remove_91 : decode cJ39_remove 91 = .ok (.goto 37, 3) := dk_167 0 37 (dk_at dksJ39_remove_3 20 rfl rfl)
theorem dJ39_remove_94 : decode cJ39_remove 94 = .ok (.aload_n 0, 1) := dk_42 (dk_at dksJ39_remove_3 23 rfl rfl)
theorem dJ39_remove_95 : decode cJ39_remove 95 = .ok (.getfield 52, 3) := dk_180 0 52 (dk_at dksJ39_remove_4 0 rfl rfl)
theorem dJ39_remove_98 : decode cJ39_remove 98 = .ok (.ifnull 22, 3) := dk_198 0 22 (dk_at dksJ39_remove_4 3 rfl rfl)
theorem dJ39_remove_101 : decode cJ39_remove 101 = .ok (.aload_n 0, 1) := dk_42 (dk_at dksJ39_remove_4 6 rfl rfl)
theorem dJ39_remove_102 : decode cJ39_remove 102 = .ok (.getfield 1, 3) := dk_180 0 1 (dk_at dksJ39_remove_4 7 rfl rfl)
theorem dJ39_remove_105 : decode cJ39_remove 105 = .ok (.aload_n 0, 1) := dk_42 (dk_at dksJ39_remove_4 10 rfl rfl)
theorem dJ39_remove_106 : decode cJ39_remove 106 = .ok (.getfield 52, 3) := dk_180 0 52 (dk_at dksJ39_remove_4 11 rfl rfl)
theorem dJ39_remove_109 : decode cJ39_remove 109 = .ok (.invokevirtual 68, 3) := dk_182 0 68 (dk_at dksJ39_remove_4 14 rfl rfl)
theorem dJ39_remove_112 : decode cJ39_remove 112 = .ok (.aload_n 0, 1) := dk_42 (dk_at dksJ39_remove_4 17 rfl rfl)
theorem dJ39_remove_113 : decode cJ39_remove 113 = .ok (.aconst_null, 1) := dk_1 (dk_at dksJ39_remove_4 18 rfl rfl)
theorem dJ39_remove_114 : decode cJ39_remove 114 = .ok (.putfield 52, 3) := dk_181 0 52 (dk_at dksJ39_remove_4 19 rfl rfl)
theorem dJ39_remove_117 : decode cJ39_remove 117 = .ok (.goto 11, 3) := dk_167 0 11 (dk_at dksJ39_remove_5 0 rfl rfl)
theorem dJ39_remove_120 : decode cJ39_remove 120 = .ok (.new 72, 3) := dk_187 0 72 (dk_at dksJ39_remove_5 3 rfl rfl)
theorem dJ39_remove_123 : decode cJ39_remove 123 = .ok (.dup, 1) := dk_89 (dk_at dksJ39_remove_5 6 rfl rfl)
theorem dJ39_remove_124 : decode cJ39_remove 124 = .ok (.invokespecial 74, 3) := dk_183 0 74 (dk_at dksJ39_remove_5 7 rfl rfl)
theorem dJ39_remove_127 : decode cJ39_remove 127 = .ok (.athrow, 1) := dk_191 (dk_at dksJ39_remove_5 10 rfl rfl)
theorem dJ39_remove_128 : decode cJ39_remove 128 = .ok (.aload_n 0, 1) := dk_42 (dk_at dksJ39_remove_5 11 rfl rfl)
theorem dJ39_remove_129 : decode cJ39_remove 129 = .ok (.aload_n 0, 1) := dk_42 (dk_at dksJ39_remove_5 12 rfl rfl)
theorem dJ39_remove_130 : decode cJ39_remove 130 = .ok (.getfield 1, 3) := dk_180 0 1 (dk_at dksJ39_remove_5 13 rfl rfl)
theorem dJ39_remove_133 : decode cJ39_remove 133 = .ok (.getfield 17, 3) := dk_180 0 17 (dk_at dksJ39_remove_5 16 rfl rfl)
theorem dJ39_remove_136 : decode cJ39_remove 136 = .ok (.putfield 22, 3) := dk_181 0 22 (dk_at dksJ39_remove_5 19 rfl rfl)
theorem dJ39_remove_139 : decode cJ39_remove 139 = .ok (.return_, 1) := dk_177 (dk_at dksJ39_remove_5 22 rfl rfl)
abbrev cJ39_init : ByteArray := prog_79_method_1_code
def yJ39_init : MethodName := ⟨RJ39, "<init>", "(Ljava/util/PriorityQueue;)V"⟩
def dkwJ39_init_1 : List UInt8 := [181, 0, 22, 177]
abbrev dktJ39_init_1 : List UInt8 := dkwJ39_init_1 ++ []
def dkwJ39_init_0 : List UInt8 := [42, 43, 181, 0, 1, 42, 183, 0, 7, 42, 2, 181, 0, 13, 42, 42, 180, 0, 1, 180, 0, 17]
abbrev dktJ39_init_0 : List UInt8 := dkwJ39_init_0 ++ dktJ39_init_1
theorem dksJ39_init_0 : cJ39_init.data.toList.drop 0 = dktJ39_init_0 := by decide +kernel
theorem dksJ39_init_1 : cJ39_init.data.toList.drop 22 = dktJ39_init_1 := dk_seg dksJ39_init_0 22 rfl rfl
theorem dJ39_init_0 : decode cJ39_init 0 = .ok (.aload_n 0, 1) := dk_42 (dk_at dksJ39_init_0 0 rfl rfl)
theorem dJ39_init_1 : decode cJ39_init 1 = .ok (.aload_n 1, 1) := dk_43 (dk_at dksJ39_init_0 1 rfl rfl)
theorem dJ39_init_2 : decode cJ39_init 2 = .ok (.putfield 1, 3) := dk_181 0 1 (dk_at dksJ39_init_0 2 rfl rfl)
theorem dJ39_init_5 : decode cJ39_init 5 = .ok (.aload_n 0, 1) := dk_42 (dk_at dksJ39_init_0 5 rfl rfl)
theorem dJ39_init_6 : decode cJ39_init 6 = .ok (.invokespecial 7, 3) := dk_183 0 7 (dk_at dksJ39_init_0 6 rfl rfl)
theorem dJ39_init_9 : decode cJ39_init 9 = .ok (.aload_n 0, 1) := dk_42 (dk_at dksJ39_init_0 9 rfl rfl)
theorem dJ39_init_10 : decode cJ39_init 10 = .ok (.iconst (-1), 1) := dk_2 (dk_at dksJ39_init_0 10 rfl rfl)
theorem dJ39_init_11 : decode cJ39_init 11 = .ok (.putfield 13, 3) := dk_181 0 13 (dk_at dksJ39_init_0 11 rfl rfl)
theorem dJ39_init_14 : decode cJ39_init 14 = .ok (.aload_n 0, 1) := dk_42 (dk_at dksJ39_init_0 14 rfl rfl)
theorem dJ39_init_15 : decode cJ39_init 15 = .ok (.aload_n 0, 1) := dk_42 (dk_at dksJ39_init_0 15 rfl rfl)
theorem dJ39_init_16 : decode cJ39_init 16 = .ok (.getfield 1, 3) := dk_180 0 1 (dk_at dksJ39_init_0 16 rfl rfl)
theorem dJ39_init_19 : decode cJ39_init 19 = .ok (.getfield 17, 3) := dk_180 0 17 (dk_at dksJ39_init_0 19 rfl rfl)
theorem dJ39_init_22 : decode cJ39_init 22 = .ok (.putfield 22, 3) := dk_181 0 22 (dk_at dksJ39_init_1 0 rfl rfl)
theorem dJ39_init_25 : decode cJ39_init 25 = .ok (.return_, 1) := dk_177 (dk_at dksJ39_init_1 3 rfl rfl)
theorem q160 : (Jvm.Cond.initialized "java/util/PriorityQueue$Itr") ∈ lw_all := lw_g (lw_at lw_m1 64 rfl) rfl
theorem q1102 : (Jvm.Cond.selects "java/util/PriorityQueue$Itr" ({ cls := "java/lang/Object", name := "getClass", desc := "()Ljava/lang/Class;" } : Jvm.MethodName) ({ cls := "java/lang/Object", name := "getClass", desc := "()Ljava/lang/Class;" } : Jvm.MethodName)) ∈ lw_all := lw_g (lw_at lw_m5 46 rfl) rfl
theorem q1353 : (Jvm.Cond.castable "java/util/PriorityQueue$Itr" "java/util/Iterator") ∈ lw_tbl := lw_at lw_m6 57 rfl
theorem q1354 : (Jvm.Cond.selects "java/util/PriorityQueue$Itr" ({ cls := "java/util/Iterator", name := "hasNext", desc := "()Z" } : Jvm.MethodName) ({ cls := "java/util/PriorityQueue$Itr", name := "hasNext", desc := "()Z" } : Jvm.MethodName)) ∈ lw_all := lw_g (lw_at lw_m6 58 rfl) rfl
theorem q1355 : (Jvm.Cond.unhidden "java/util/PriorityQueue$Itr" "hasNext" "()Z") ∈ lw_tbl := lw_at lw_m6 59 rfl
theorem q1356 : (Jvm.Cond.instanceMethod ({ cls := "java/util/PriorityQueue$Itr", name := "hasNext", desc := "()Z" } : Jvm.MethodName)) ∈ lw_all := lw_g (lw_at lw_m6 60 rfl) rfl
theorem q1357 : (Jvm.Cond.publicMethod ({ cls := "java/util/PriorityQueue$Itr", name := "hasNext", desc := "()Z" } : Jvm.MethodName)) ∈ lw_tbl := lw_at lw_m6 61 rfl
theorem q1358 : (Jvm.Cond.code ({ cls := "java/util/PriorityQueue$Itr", name := "hasNext", desc := "()Z" } : Jvm.MethodName) prog_79_method_2_code (1 : Nat) (Option.some Jvm.ClassFile.FieldType.boolean)) ∈ lw_all := lw_g (lw_at lw_m6 62 rfl) rfl
theorem q1359 : (Jvm.Cond.methodLink "java/util/PriorityQueue$Itr" (35 : Nat) ({ cls := "java/util/ArrayDeque", name := "isEmpty", desc := "()Z" } : Jvm.MethodName)) ∈ lw_all := lw_g (lw_at lw_m6 63 rfl) rfl
theorem q1495 : (Jvm.Cond.selects "java/util/PriorityQueue$Itr" ({ cls := "java/util/Iterator", name := "next", desc := "()Ljava/lang/Object;" } : Jvm.MethodName) ({ cls := "java/util/PriorityQueue$Itr", name := "next", desc := "()Ljava/lang/Object;" } : Jvm.MethodName)) ∈ lw_all := lw_g (lw_at lw_m6 199 rfl) rfl
theorem q1496 : (Jvm.Cond.unhidden "java/util/PriorityQueue$Itr" "next" "()Ljava/lang/Object;") ∈ lw_tbl := lw_at lw_m6 200 rfl
theorem q1497 : (Jvm.Cond.instanceMethod ({ cls := "java/util/PriorityQueue$Itr", name := "next", desc := "()Ljava/lang/Object;" } : Jvm.MethodName)) ∈ lw_all := lw_g (lw_at lw_m6 201 rfl) rfl
theorem q1498 : (Jvm.Cond.publicMethod ({ cls := "java/util/PriorityQueue$Itr", name := "next", desc := "()Ljava/lang/Object;" } : Jvm.MethodName)) ∈ lw_tbl := lw_at lw_m6 202 rfl
theorem q1499 : (Jvm.Cond.code ({ cls := "java/util/PriorityQueue$Itr", name := "next", desc := "()Ljava/lang/Object;" } : Jvm.MethodName) prog_79_method_3_code (1 : Nat) (Option.some (Jvm.ClassFile.FieldType.object "java/lang/Object"))) ∈ lw_all := lw_g (lw_at lw_m6 203 rfl) rfl
theorem q1500 : (Jvm.Cond.methodLink "java/util/PriorityQueue$Itr" (48 : Nat) ({ cls := "java/util/ArrayDeque", name := "poll", desc := "()Ljava/lang/Object;" } : Jvm.MethodName)) ∈ lw_all := lw_g (lw_at lw_m6 204 rfl) rfl
theorem q2145 : (Jvm.Cond.selects "java/util/PriorityQueue$Itr" ({ cls := "java/util/Iterator", name := "remove", desc := "()V" } : Jvm.MethodName) ({ cls := "java/util/PriorityQueue$Itr", name := "remove", desc := "()V" } : Jvm.MethodName)) ∈ lw_all := lw_g (lw_at lw_m9 129 rfl) rfl
theorem q2146 : (Jvm.Cond.unhidden "java/util/PriorityQueue$Itr" "remove" "()V") ∈ lw_tbl := lw_at lw_m9 130 rfl
theorem q2147 : (Jvm.Cond.instanceMethod ({ cls := "java/util/PriorityQueue$Itr", name := "remove", desc := "()V" } : Jvm.MethodName)) ∈ lw_all := lw_g (lw_at lw_m9 131 rfl) rfl
theorem q2148 : (Jvm.Cond.publicMethod ({ cls := "java/util/PriorityQueue$Itr", name := "remove", desc := "()V" } : Jvm.MethodName)) ∈ lw_tbl := lw_at lw_m9 132 rfl
theorem q2149 : (Jvm.Cond.code ({ cls := "java/util/PriorityQueue$Itr", name := "remove", desc := "()V" } : Jvm.MethodName) prog_79_method_4_code (2 : Nat) (Option.none : Option Jvm.ClassFile.FieldType)) ∈ lw_all := lw_g (lw_at lw_m9 133 rfl) rfl
theorem q2150 : (Jvm.Cond.methodLink "java/util/PriorityQueue$Itr" (59 : Nat) ({ cls := "java/util/PriorityQueue", name := "removeAt", desc := "(I)Ljava/lang/Object;" } : Jvm.MethodName)) ∈ lw_all := lw_g (lw_at lw_m9 134 rfl) rfl
theorem q2383 : (Jvm.Cond.classLink "java/util/PriorityQueue$Itr" (36 : Nat) "java/util/ArrayDeque") ∈ lw_all := lw_g (lw_at lw_m10 127 rfl) rfl
theorem q2385 : (Jvm.Cond.methodLink "java/util/PriorityQueue$Itr" (63 : Nat) ({ cls := "java/util/ArrayDeque", name := "<init>", desc := "()V" } : Jvm.MethodName)) ∈ lw_all := lw_g (lw_at lw_m10 129 rfl) rfl
theorem q2402 : (Jvm.Cond.methodLink "java/util/PriorityQueue$Itr" (64 : Nat) ({ cls := "java/util/ArrayDeque", name := "add", desc := "(Ljava/lang/Object;)Z" } : Jvm.MethodName)) ∈ lw_all := lw_g (lw_at lw_m10 146 rfl) rfl
theorem q2423 : (Jvm.Cond.methodLink "java/util/PriorityQueue$Itr" (68 : Nat) ({ cls := "java/util/PriorityQueue", name := "removeEq", desc := "(Ljava/lang/Object;)V" } : Jvm.MethodName)) ∈ lw_all := lw_g (lw_at lw_m10 167 rfl) rfl
theorem q2452 : (Jvm.Cond.fieldLink "java/util/PriorityQueue$Itr" (44 : Nat) "java/util/PriorityQueue" "queue" "[Ljava/lang/Object;") ∈ lw_all := lw_g (lw_at lw_m10 196 rfl) rfl
theorem q2454 : (Jvm.Cond.fieldLink "java/util/PriorityQueue$Itr" (28 : Nat) "java/util/PriorityQueue" "size" "I") ∈ lw_all := lw_g (lw_at lw_m10 198 rfl) rfl
theorem q2457 : (Jvm.Cond.fieldLink "java/util/PriorityQueue$Itr" (17 : Nat) "java/util/PriorityQueue" "modCount" "I") ∈ lw_all := lw_g (lw_at lw_m10 201 rfl) rfl
theorem q2579 : (Jvm.Cond.instantiable "java/util/PriorityQueue$Itr" (6 : Nat)) ∈ lw_all := lw_g (lw_at lw_m11 83 rfl) rfl
theorem q2581 : (Jvm.Cond.instanceMethod ({ cls := "java/util/PriorityQueue$Itr", name := "<init>", desc := "(Ljava/util/PriorityQueue;)V" } : Jvm.MethodName)) ∈ lw_all := lw_g (lw_at lw_m11 85 rfl) rfl
theorem q2582 : (Jvm.Cond.code ({ cls := "java/util/PriorityQueue$Itr", name := "<init>", desc := "(Ljava/util/PriorityQueue;)V" } : Jvm.MethodName) prog_79_method_1_code (2 : Nat) (Option.none : Option Jvm.ClassFile.FieldType)) ∈ lw_all := lw_g (lw_at lw_m11 86 rfl) rfl
theorem q2583 : (Jvm.Cond.methodLink "java/util/PriorityQueue$Itr" (7 : Nat) ({ cls := "java/lang/Object", name := "<init>", desc := "()V" } : Jvm.MethodName)) ∈ lw_all := lw_g (lw_at lw_m11 87 rfl) rfl
theorem q2584 : (Jvm.Cond.fieldLink "java/util/PriorityQueue$Itr" (25 : Nat) "java/util/PriorityQueue$Itr" "cursor" "I") ∈ lw_all := lw_g (lw_at lw_m11 88 rfl) rfl
theorem q2585 : (Jvm.Cond.fieldLink "java/util/PriorityQueue$Itr" (13 : Nat) "java/util/PriorityQueue$Itr" "lastRet" "I") ∈ lw_all := lw_g (lw_at lw_m11 89 rfl) rfl
theorem q2586 : (Jvm.Cond.fieldLink "java/util/PriorityQueue$Itr" (31 : Nat) "java/util/PriorityQueue$Itr" "forgetMeNot" "Ljava/util/ArrayDeque;") ∈ lw_all := lw_g (lw_at lw_m11 90 rfl) rfl
theorem q2587 : (Jvm.Cond.fieldLink "java/util/PriorityQueue$Itr" (52 : Nat) "java/util/PriorityQueue$Itr" "lastRetElt" "Ljava/lang/Object;") ∈ lw_all := lw_g (lw_at lw_m11 91 rfl) rfl
theorem q2588 : (Jvm.Cond.fieldLink "java/util/PriorityQueue$Itr" (22 : Nat) "java/util/PriorityQueue$Itr" "expectedModCount" "I") ∈ lw_all := lw_g (lw_at lw_m11 92 rfl) rfl
theorem q2589 : (Jvm.Cond.fieldLink "java/util/PriorityQueue$Itr" (1 : Nat) "java/util/PriorityQueue$Itr" "this$0" "Ljava/util/PriorityQueue;") ∈ lw_all := lw_g (lw_at lw_m11 93 rfl) rfl
theorem q2590 : (Jvm.Cond.lays "java/util/PriorityQueue$Itr" "java/util/PriorityQueue$Itr" "cursor" "I") ∈ lw_all := lw_g (lw_at lw_m11 94 rfl) rfl
theorem q2591 : (Jvm.Cond.soleField "java/util/PriorityQueue$Itr" "cursor") ∈ lw_all := lw_g (lw_at lw_m11 95 rfl) rfl
theorem q2592 : (Jvm.Cond.lays "java/util/PriorityQueue$Itr" "java/util/PriorityQueue$Itr" "lastRet" "I") ∈ lw_all := lw_g (lw_at lw_m11 96 rfl) rfl
theorem q2593 : (Jvm.Cond.soleField "java/util/PriorityQueue$Itr" "lastRet") ∈ lw_all := lw_g (lw_at lw_m11 97 rfl) rfl
theorem q2594 : (Jvm.Cond.lays "java/util/PriorityQueue$Itr" "java/util/PriorityQueue$Itr" "forgetMeNot" "Ljava/util/ArrayDeque;") ∈ lw_all := lw_g (lw_at lw_m11 98 rfl) rfl
theorem q2595 : (Jvm.Cond.soleField "java/util/PriorityQueue$Itr" "forgetMeNot") ∈ lw_all := lw_g (lw_at lw_m11 99 rfl) rfl
theorem q2596 : (Jvm.Cond.lays "java/util/PriorityQueue$Itr" "java/util/PriorityQueue$Itr" "lastRetElt" "Ljava/lang/Object;") ∈ lw_all := lw_g (lw_at lw_m11 100 rfl) rfl
theorem q2597 : (Jvm.Cond.soleField "java/util/PriorityQueue$Itr" "lastRetElt") ∈ lw_all := lw_g (lw_at lw_m11 101 rfl) rfl
theorem q2598 : (Jvm.Cond.lays "java/util/PriorityQueue$Itr" "java/util/PriorityQueue$Itr" "expectedModCount" "I") ∈ lw_all := lw_g (lw_at lw_m11 102 rfl) rfl
theorem q2599 : (Jvm.Cond.soleField "java/util/PriorityQueue$Itr" "expectedModCount") ∈ lw_all := lw_g (lw_at lw_m11 103 rfl) rfl
theorem q2600 : (Jvm.Cond.laysFinal "java/util/PriorityQueue$Itr" "java/util/PriorityQueue$Itr" "this$0" "Ljava/util/PriorityQueue;") ∈ lw_all := lw_g (lw_at lw_m11 104 rfl) rfl
theorem q2601 : (Jvm.Cond.soleField "java/util/PriorityQueue$Itr" "this$0") ∈ lw_all := lw_g (lw_at lw_m11 105 rfl) rfl
theorem q2602 : (Jvm.Cond.superclass "java/util/PriorityQueue$Itr" "java/lang/Object") ∈ lw_all := lw_g (lw_at lw_m11 106 rfl) rfl
theorem q3349 : (Jvm.Cond.castable "java/util/PriorityQueue$Itr" "java/lang/Object") ∈ lw_tbl := lw_at lw_m14 133 rfl
theorem in_J39 : ∀ w ∈ wsJ390, w ∈ lw_all := lw_in wsJ390 [2590, 2592, 2594, 2596, 2598, 2600] (by decide +kernel) (by decide +kernel)
/-! java/util/ArrayDeque$DeqIterator -/
def RJ40 : String := "java/util/ArrayDeque$DeqIterator"
def TJ40 : u_T := fun k => match k with
  | 0 => ("java/util/ArrayDeque$DeqIterator", "cursor", "I", false)
  | 1 => ("java/util/ArrayDeque$DeqIterator", "remaining", "I", false)
  | 2 => ("java/util/ArrayDeque$DeqIterator", "lastRet", "I", false)
  | _ => ("java/util/ArrayDeque$DeqIterator", "this$0", "Ljava/util/ArrayDeque;", true)
def tyJ40 : Nat → FieldType := fun k => match k with
  | 0 => .int
  | 1 => .int
  | 2 => .int
  | _ => .object "java/util/ArrayDeque"
abbrev wsJ400 : List Cond := u_ws RJ40 TJ40 4
theorem nmJ40 : ∀ a, a < 4 → ∀ b, b < 4 → a ≠ b → (TJ40 a).2.1 ≠ (TJ40 b).2.1 := by decide +kernel
theorem tyJ40_ok : ∀ k, k < 4 → parseFieldDescriptor (TJ40 k).2.2.1 = some (tyJ40 k) := by decide +kernel
abbrev cJ40_hasNext : ByteArray := prog_61_method_2_code
def yJ40_hasNext : MethodName := ⟨RJ40, "hasNext", "()Z"⟩
def dkwJ40_hasNext_0 : List UInt8 := [42, 180, 0, 19, 158, 0, 7, 4, 167, 0, 4, 3, 172]
abbrev dktJ40_hasNext_0 : List UInt8 := dkwJ40_hasNext_0 ++ []
theorem dksJ40_hasNext_0 : cJ40_hasNext.data.toList.drop 0 = dktJ40_hasNext_0 := by decide +kernel
theorem dJ40_hasNext_0 : decode cJ40_hasNext 0 = .ok (.aload_n 0, 1) := dk_42 (dk_at dksJ40_hasNext_0 0 rfl rfl)
theorem dJ40_hasNext_1 : decode cJ40_hasNext 1 = .ok (.getfield 19, 3) := dk_180 0 19 (dk_at dksJ40_hasNext_0 1 rfl rfl)
theorem dJ40_hasNext_4 : decode cJ40_hasNext 4 = .ok (.ifCond .le 7, 3) := dk_158 0 7 (dk_at dksJ40_hasNext_0 4 rfl rfl)
theorem dJ40_hasNext_7 : decode cJ40_hasNext 7 = .ok (.iconst 1, 1) := dk_4 (dk_at dksJ40_hasNext_0 7 rfl rfl)
theorem dJ40_hasNext_8 : decode cJ40_hasNext 8 = .ok (.goto 4, 3) := dk_167 0 4 (dk_at dksJ40_hasNext_0 8 rfl rfl)
theorem dJ40_hasNext_11 : decode cJ40_hasNext 11 = .ok (.iconst 0, 1) := dk_3 (dk_at dksJ40_hasNext_0 11 rfl rfl)
theorem dJ40_hasNext_12 : decode cJ40_hasNext 12 = .ok (.ireturn, 1) := dk_172 (dk_at dksJ40_hasNext_0 12 rfl rfl)
abbrev cJ40_next : ByteArray := prog_61_method_3_code
def yJ40_next : MethodName := ⟨RJ40, "next", "()Ljava/lang/Object;"⟩
def dkwJ40_next_2 : List UInt8 := [181, 0, 29, 42, 89, 180, 0, 19, 4, 100, 181, 0, 19, 44, 176]
abbrev dktJ40_next_2 : List UInt8 := dkwJ40_next_2 ++ []
def dkwJ40_next_1 : List UInt8 := [42, 180, 0, 29, 184, 0, 39, 77, 42, 42, 42, 180, 0, 29, 90, 181, 0, 23, 43, 190, 184, 0, 43]
abbrev dktJ40_next_1 : List UInt8 := dkwJ40_next_1 ++ dktJ40_next_2
def dkwJ40_next_0 : List UInt8 := [42, 180, 0, 19, 157, 0, 11, 187, 0, 32, 89, 183, 0, 34, 191, 42, 180, 0, 1, 180, 0, 35, 76, 43]
abbrev dktJ40_next_0 : List UInt8 := dkwJ40_next_0 ++ dktJ40_next_1
theorem dksJ40_next_0 : cJ40_next.data.toList.drop 0 = dktJ40_next_0 := by decide +kernel
theorem dksJ40_next_1 : cJ40_next.data.toList.drop 24 = dktJ40_next_1 := dk_seg dksJ40_next_0 24 rfl rfl
theorem dksJ40_next_2 : cJ40_next.data.toList.drop 47 = dktJ40_next_2 := dk_seg dksJ40_next_1 23 rfl rfl
theorem dJ40_next_0 : decode cJ40_next 0 = .ok (.aload_n 0, 1) := dk_42 (dk_at dksJ40_next_0 0 rfl rfl)
theorem dJ40_next_1 : decode cJ40_next 1 = .ok (.getfield 19, 3) := dk_180 0 19 (dk_at dksJ40_next_0 1 rfl rfl)
theorem dJ40_next_4 : decode cJ40_next 4 = .ok (.ifCond .gt 11, 3) := dk_157 0 11 (dk_at dksJ40_next_0 4 rfl rfl)
theorem dJ40_next_7 : decode cJ40_next 7 = .ok (.new 32, 3) := dk_187 0 32 (dk_at dksJ40_next_0 7 rfl rfl)
theorem dJ40_next_10 : decode cJ40_next 10 = .ok (.dup, 1) := dk_89 (dk_at dksJ40_next_0 10 rfl rfl)
theorem dJ40_next_11 : decode cJ40_next 11 = .ok (.invokespecial 34, 3) := dk_183 0 34 (dk_at dksJ40_next_0 11 rfl rfl)
theorem dJ40_next_14 : decode cJ40_next 14 = .ok (.athrow, 1) := dk_191 (dk_at dksJ40_next_0 14 rfl rfl)
theorem dJ40_next_15 : decode cJ40_next 15 = .ok (.aload_n 0, 1) := dk_42 (dk_at dksJ40_next_0 15 rfl rfl)
theorem dJ40_next_16 : decode cJ40_next 16 = .ok (.getfield 1, 3) := dk_180 0 1 (dk_at dksJ40_next_0 16 rfl rfl)
theorem dJ40_next_19 : decode cJ40_next 19 = .ok (.getfield 35, 3) := dk_180 0 35 (dk_at dksJ40_next_0 19 rfl rfl)
theorem dJ40_next_22 : decode cJ40_next 22 = .ok (.astore_n 1, 1) := dk_76 (dk_at dksJ40_next_0 22 rfl rfl)
theorem dJ40_next_23 : decode cJ40_next 23 = .ok (.aload_n 1, 1) := dk_43 (dk_at dksJ40_next_0 23 rfl rfl)
theorem dJ40_next_24 : decode cJ40_next 24 = .ok (.aload_n 0, 1) := dk_42 (dk_at dksJ40_next_1 0 rfl rfl)
theorem dJ40_next_25 : decode cJ40_next 25 = .ok (.getfield 29, 3) := dk_180 0 29 (dk_at dksJ40_next_1 1 rfl rfl)
theorem dJ40_next_28 : decode cJ40_next 28 = .ok (.invokestatic 39, 3) := dk_184 0 39 (dk_at dksJ40_next_1 4 rfl rfl)
theorem dJ40_next_31 : decode cJ40_next 31 = .ok (.astore_n 2, 1) := dk_77 (dk_at dksJ40_next_1 7 rfl rfl)
theorem dJ40_next_32 : decode cJ40_next 32 = .ok (.aload_n 0, 1) := dk_42 (dk_at dksJ40_next_1 8 rfl rfl)
theorem dJ40_next_33 : decode cJ40_next 33 = .ok (.aload_n 0, 1) := dk_42 (dk_at dksJ40_next_1 9 rfl rfl)
theorem dJ40_next_34 : decode cJ40_next 34 = .ok (.aload_n 0, 1) := dk_42 (dk_at dksJ40_next_1 10 rfl rfl)
theorem dJ40_next_35 : decode cJ40_next 35 = .ok (.getfield 29, 3) := dk_180 0 29 (dk_at dksJ40_next_1 11 rfl rfl)
theorem dJ40_next_38 : decode cJ40_next 38 = .ok (.dup_x1, 1) := dk_90 (dk_at dksJ40_next_1 14 rfl rfl)
theorem dJ40_next_39 : decode cJ40_next 39 = .ok (.putfield 23, 3) := dk_181 0 23 (dk_at dksJ40_next_1 15 rfl rfl)
theorem dJ40_next_42 : decode cJ40_next 42 = .ok (.aload_n 1, 1) := dk_43 (dk_at dksJ40_next_1 18 rfl rfl)
theorem dJ40_next_43 : decode cJ40_next 43 = .ok (.arraylength, 1) := dk_190 (dk_at dksJ40_next_1 19 rfl rfl)
theorem dJ40_next_44 : decode cJ40_next 44 = .ok (.invokestatic 43, 3) := dk_184 0 43 (dk_at dksJ40_next_1 20 rfl rfl)
theorem dJ40_next_47 : decode cJ40_next 47 = .ok (.putfield 29, 3) := dk_181 0 29 (dk_at dksJ40_next_2 0 rfl rfl)
theorem dJ40_next_50 : decode cJ40_next 50 = .ok (.aload_n 0, 1) := dk_42 (dk_at dksJ40_next_2 3 rfl rfl)
theorem dJ40_next_51 : decode cJ40_next 51 = .ok (.dup, 1) := dk_89 (dk_at dksJ40_next_2 4 rfl rfl)
theorem dJ40_next_52 : decode cJ40_next 52 = .ok (.getfield 19, 3) := dk_180 0 19 (dk_at dksJ40_next_2 5 rfl rfl)
theorem dJ40_next_55 : decode cJ40_next 55 = .ok (.iconst 1, 1) := dk_4 (dk_at dksJ40_next_2 8 rfl rfl)
theorem dJ40_next_56 : decode cJ40_next 56 = .ok (.isub, 1) := dk_100 (dk_at dksJ40_next_2 9 rfl rfl)
theorem dJ40_next_57 : decode cJ40_next 57 = .ok (.putfield 19, 3) := dk_181 0 19 (dk_at dksJ40_next_2 10 rfl rfl)
theorem dJ40_next_60 : decode cJ40_next 60 = .ok (.aload_n 2, 1) := dk_44 (dk_at dksJ40_next_2 13 rfl rfl)
theorem dJ40_next_61 : decode cJ40_next 61 = .ok (.areturn, 1) := dk_176 (dk_at dksJ40_next_2 14 rfl rfl)
abbrev cJ40_remove : ByteArray := prog_61_method_5_code
def yJ40_remove : MethodName := ⟨RJ40, "remove", "()V"⟩
def dkwJ40_remove_1 : List UInt8 := [182, 0, 53, 182, 0, 57, 42, 2, 181, 0, 23, 177]
abbrev dktJ40_remove_1 : List UInt8 := dkwJ40_remove_1 ++ []
def dkwJ40_remove_0 : List UInt8 := [42, 180, 0, 23, 156, 0, 11, 187, 0, 50, 89, 183, 0, 52, 191, 42, 42, 180, 0, 1, 42, 180, 0, 23]
abbrev dktJ40_remove_0 : List UInt8 := dkwJ40_remove_0 ++ dktJ40_remove_1
theorem dksJ40_remove_0 : cJ40_remove.data.toList.drop 0 = dktJ40_remove_0 := by decide +kernel
theorem dksJ40_remove_1 : cJ40_remove.data.toList.drop 24 = dktJ40_remove_1 := dk_seg dksJ40_remove_0 24 rfl rfl
theorem dJ40_remove_0 : decode cJ40_remove 0 = .ok (.aload_n 0, 1) := dk_42 (dk_at dksJ40_remove_0 0 rfl rfl)
theorem dJ40_remove_1 : decode cJ40_remove 1 = .ok (.getfield 23, 3) := dk_180 0 23 (dk_at dksJ40_remove_0 1 rfl rfl)
theorem dJ40_remove_4 : decode cJ40_remove 4 = .ok (.ifCond .ge 11, 3) := dk_156 0 11 (dk_at dksJ40_remove_0 4 rfl rfl)
theorem dJ40_remove_7 : decode cJ40_remove 7 = .ok (.new 50, 3) := dk_187 0 50 (dk_at dksJ40_remove_0 7 rfl rfl)
theorem dJ40_remove_10 : decode cJ40_remove 10 = .ok (.dup, 1) := dk_89 (dk_at dksJ40_remove_0 10 rfl rfl)
theorem dJ40_remove_11 : decode cJ40_remove 11 = .ok (.invokespecial 52, 3) := dk_183 0 52 (dk_at dksJ40_remove_0 11 rfl rfl)
theorem dJ40_remove_14 : decode cJ40_remove 14 = .ok (.athrow, 1) := dk_191 (dk_at dksJ40_remove_0 14 rfl rfl)
theorem dJ40_remove_15 : decode cJ40_remove 15 = .ok (.aload_n 0, 1) := dk_42 (dk_at dksJ40_remove_0 15 rfl rfl)
theorem dJ40_remove_16 : decode cJ40_remove 16 = .ok (.aload_n 0, 1) := dk_42 (dk_at dksJ40_remove_0 16 rfl rfl)
theorem dJ40_remove_17 : decode cJ40_remove 17 = .ok (.getfield 1, 3) := dk_180 0 1 (dk_at dksJ40_remove_0 17 rfl rfl)
theorem dJ40_remove_20 : decode cJ40_remove 20 = .ok (.aload_n 0, 1) := dk_42 (dk_at dksJ40_remove_0 20 rfl rfl)
theorem dJ40_remove_21 : decode cJ40_remove 21 = .ok (.getfield 23, 3) := dk_180 0 23 (dk_at dksJ40_remove_0 21 rfl rfl)
theorem dJ40_remove_24 : decode cJ40_remove 24 = .ok (.invokevirtual 53, 3) := dk_182 0 53 (dk_at dksJ40_remove_1 0 rfl rfl)
theorem dJ40_remove_27 : decode cJ40_remove 27 = .ok (.invokevirtual 57, 3) := dk_182 0 57 (dk_at dksJ40_remove_1 3 rfl rfl)
theorem dJ40_remove_30 : decode cJ40_remove 30 = .ok (.aload_n 0, 1) := dk_42 (dk_at dksJ40_remove_1 6 rfl rfl)
theorem dJ40_remove_31 : decode cJ40_remove 31 = .ok (.iconst (-1), 1) := dk_2 (dk_at dksJ40_remove_1 7 rfl rfl)
theorem dJ40_remove_32 : decode cJ40_remove 32 = .ok (.putfield 23, 3) := dk_181 0 23 (dk_at dksJ40_remove_1 8 rfl rfl)
theorem dJ40_remove_35 : decode cJ40_remove 35 = .ok (.return_, 1) := dk_177 (dk_at dksJ40_remove_1 11 rfl rfl)
abbrev cJ40_postDelete : ByteArray := prog_61_method_4_code
def yJ40_postDelete : MethodName := ⟨RJ40, "postDelete", "(Z)V"⟩
def dkwJ40_postDelete_0 : List UInt8 := [27, 153, 0, 22, 42, 42, 180, 0, 29, 42, 180, 0, 1, 180, 0, 35, 190, 184, 0, 47, 181, 0, 29, 177]
abbrev dktJ40_postDelete_0 : List UInt8 := dkwJ40_postDelete_0 ++ []
theorem dksJ40_postDelete_0 : cJ40_postDelete.data.toList.drop 0 = dktJ40_postDelete_0 := by decide +kernel
theorem dJ40_postDelete_0 : decode cJ40_postDelete 0 = .ok (.iload_n 1, 1) := dk_27 (dk_at dksJ40_postDelete_0 0 rfl rfl)
theorem dJ40_postDelete_1 : decode cJ40_postDelete 1 = .ok (.ifCond .eq 22, 3) := dk_153 0 22 (dk_at dksJ40_postDelete_0 1 rfl rfl)
theorem dJ40_postDelete_4 : decode cJ40_postDelete 4 = .ok (.aload_n 0, 1) := dk_42 (dk_at dksJ40_postDelete_0 4 rfl rfl)
theorem dJ40_postDelete_5 : decode cJ40_postDelete 5 = .ok (.aload_n 0, 1) := dk_42 (dk_at dksJ40_postDelete_0 5 rfl rfl)
theorem dJ40_postDelete_6 : decode cJ40_postDelete 6 = .ok (.getfield 29, 3) := dk_180 0 29 (dk_at dksJ40_postDelete_0 6 rfl rfl)
theorem dJ40_postDelete_9 : decode cJ40_postDelete 9 = .ok (.aload_n 0, 1) := dk_42 (dk_at dksJ40_postDelete_0 9 rfl rfl)
theorem dJ40_postDelete_10 : decode cJ40_postDelete 10 = .ok (.getfield 1, 3) := dk_180 0 1 (dk_at dksJ40_postDelete_0 10 rfl rfl)
theorem dJ40_postDelete_13 : decode cJ40_postDelete 13 = .ok (.getfield 35, 3) := dk_180 0 35 (dk_at dksJ40_postDelete_0 13 rfl rfl)
theorem dJ40_postDelete_16 : decode cJ40_postDelete 16 = .ok (.arraylength, 1) := dk_190 (dk_at dksJ40_postDelete_0 16 rfl rfl)
theorem dJ40_postDelete_17 : decode cJ40_postDelete 17 = .ok (.invokestatic 47, 3) := dk_184 0 47 (dk_at dksJ40_postDelete_0 17 rfl rfl)
theorem dJ40_postDelete_20 : decode cJ40_postDelete 20 = .ok (.putfield 29, 3) := dk_181 0 29 (dk_at dksJ40_postDelete_0 20 rfl rfl)
theorem dJ40_postDelete_23 : decode cJ40_postDelete 23 = .ok (.return_, 1) := dk_177 (dk_at dksJ40_postDelete_0 23 rfl rfl)
abbrev cJ40_init : ByteArray := prog_61_method_1_code
def yJ40_init : MethodName := ⟨RJ40, "<init>", "(Ljava/util/ArrayDeque;)V"⟩
def dkwJ40_init_1 : List UInt8 := [181, 0, 23, 42, 43, 180, 0, 26, 181, 0, 29, 177]
abbrev dktJ40_init_1 : List UInt8 := dkwJ40_init_1 ++ []
def dkwJ40_init_0 : List UInt8 := [42, 43, 181, 0, 1, 42, 183, 0, 7, 42, 42, 180, 0, 1, 182, 0, 13, 181, 0, 19, 42, 2]
abbrev dktJ40_init_0 : List UInt8 := dkwJ40_init_0 ++ dktJ40_init_1
theorem dksJ40_init_0 : cJ40_init.data.toList.drop 0 = dktJ40_init_0 := by decide +kernel
theorem dksJ40_init_1 : cJ40_init.data.toList.drop 22 = dktJ40_init_1 := dk_seg dksJ40_init_0 22 rfl rfl
theorem dJ40_init_0 : decode cJ40_init 0 = .ok (.aload_n 0, 1) := dk_42 (dk_at dksJ40_init_0 0 rfl rfl)
theorem dJ40_init_1 : decode cJ40_init 1 = .ok (.aload_n 1, 1) := dk_43 (dk_at dksJ40_init_0 1 rfl rfl)
theorem dJ40_init_2 : decode cJ40_init 2 = .ok (.putfield 1, 3) := dk_181 0 1 (dk_at dksJ40_init_0 2 rfl rfl)
theorem dJ40_init_5 : decode cJ40_init 5 = .ok (.aload_n 0, 1) := dk_42 (dk_at dksJ40_init_0 5 rfl rfl)
theorem dJ40_init_6 : decode cJ40_init 6 = .ok (.invokespecial 7, 3) := dk_183 0 7 (dk_at dksJ40_init_0 6 rfl rfl)
theorem dJ40_init_9 : decode cJ40_init 9 = .ok (.aload_n 0, 1) := dk_42 (dk_at dksJ40_init_0 9 rfl rfl)
theorem dJ40_init_10 : decode cJ40_init 10 = .ok (.aload_n 0, 1) := dk_42 (dk_at dksJ40_init_0 10 rfl rfl)
theorem dJ40_init_11 : decode cJ40_init 11 = .ok (.getfield 1, 3) := dk_180 0 1 (dk_at dksJ40_init_0 11 rfl rfl)
theorem dJ40_init_14 : decode cJ40_init 14 = .ok (.invokevirtual 13, 3) := dk_182 0 13 (dk_at dksJ40_init_0 14 rfl rfl)
theorem dJ40_init_17 : decode cJ40_init 17 = .ok (.putfield 19, 3) := dk_181 0 19 (dk_at dksJ40_init_0 17 rfl rfl)
theorem dJ40_init_20 : decode cJ40_init 20 = .ok (.aload_n 0, 1) := dk_42 (dk_at dksJ40_init_0 20 rfl rfl)
theorem dJ40_init_21 : decode cJ40_init 21 = .ok (.iconst (-1), 1) := dk_2 (dk_at dksJ40_init_0 21 rfl rfl)
theorem dJ40_init_22 : decode cJ40_init 22 = .ok (.putfield 23, 3) := dk_181 0 23 (dk_at dksJ40_init_1 0 rfl rfl)
theorem dJ40_init_25 : decode cJ40_init 25 = .ok (.aload_n 0, 1) := dk_42 (dk_at dksJ40_init_1 3 rfl rfl)
theorem dJ40_init_26 : decode cJ40_init 26 = .ok (.aload_n 1, 1) := dk_43 (dk_at dksJ40_init_1 4 rfl rfl)
theorem dJ40_init_27 : decode cJ40_init 27 = .ok (.getfield 26, 3) := dk_180 0 26 (dk_at dksJ40_init_1 5 rfl rfl)
theorem dJ40_init_30 : decode cJ40_init 30 = .ok (.putfield 29, 3) := dk_181 0 29 (dk_at dksJ40_init_1 8 rfl rfl)
theorem dJ40_init_33 : decode cJ40_init 33 = .ok (.return_, 1) := dk_177 (dk_at dksJ40_init_1 11 rfl rfl)
theorem q162 : (Jvm.Cond.initialized "java/util/ArrayDeque$DeqIterator") ∈ lw_all := lw_g (lw_at lw_m1 66 rfl) rfl
theorem q1092 : (Jvm.Cond.selects "java/util/ArrayDeque$DeqIterator" ({ cls := "java/lang/Object", name := "getClass", desc := "()Ljava/lang/Class;" } : Jvm.MethodName) ({ cls := "java/lang/Object", name := "getClass", desc := "()Ljava/lang/Class;" } : Jvm.MethodName)) ∈ lw_all := lw_g (lw_at lw_m5 36 rfl) rfl
theorem q1332 : (Jvm.Cond.castable "java/util/ArrayDeque$DeqIterator" "java/util/Iterator") ∈ lw_tbl := lw_at lw_m6 36 rfl
theorem q1333 : (Jvm.Cond.selects "java/util/ArrayDeque$DeqIterator" ({ cls := "java/util/Iterator", name := "hasNext", desc := "()Z" } : Jvm.MethodName) ({ cls := "java/util/ArrayDeque$DeqIterator", name := "hasNext", desc := "()Z" } : Jvm.MethodName)) ∈ lw_all := lw_g (lw_at lw_m6 37 rfl) rfl
theorem q1334 : (Jvm.Cond.unhidden "java/util/ArrayDeque$DeqIterator" "hasNext" "()Z") ∈ lw_tbl := lw_at lw_m6 38 rfl
theorem q1335 : (Jvm.Cond.instanceMethod ({ cls := "java/util/ArrayDeque$DeqIterator", name := "hasNext", desc := "()Z" } : Jvm.MethodName)) ∈ lw_all := lw_g (lw_at lw_m6 39 rfl) rfl
theorem q1336 : (Jvm.Cond.publicMethod ({ cls := "java/util/ArrayDeque$DeqIterator", name := "hasNext", desc := "()Z" } : Jvm.MethodName)) ∈ lw_tbl := lw_at lw_m6 40 rfl
theorem q1337 : (Jvm.Cond.code ({ cls := "java/util/ArrayDeque$DeqIterator", name := "hasNext", desc := "()Z" } : Jvm.MethodName) prog_61_method_2_code (1 : Nat) (Option.some Jvm.ClassFile.FieldType.boolean)) ∈ lw_all := lw_g (lw_at lw_m6 41 rfl) rfl
theorem q1461 : (Jvm.Cond.selects "java/util/ArrayDeque$DeqIterator" ({ cls := "java/util/Iterator", name := "next", desc := "()Ljava/lang/Object;" } : Jvm.MethodName) ({ cls := "java/util/ArrayDeque$DeqIterator", name := "next", desc := "()Ljava/lang/Object;" } : Jvm.MethodName)) ∈ lw_all := lw_g (lw_at lw_m6 165 rfl) rfl
theorem q1462 : (Jvm.Cond.unhidden "java/util/ArrayDeque$DeqIterator" "next" "()Ljava/lang/Object;") ∈ lw_tbl := lw_at lw_m6 166 rfl
theorem q1463 : (Jvm.Cond.instanceMethod ({ cls := "java/util/ArrayDeque$DeqIterator", name := "next", desc := "()Ljava/lang/Object;" } : Jvm.MethodName)) ∈ lw_all := lw_g (lw_at lw_m6 167 rfl) rfl
theorem q1464 : (Jvm.Cond.publicMethod ({ cls := "java/util/ArrayDeque$DeqIterator", name := "next", desc := "()Ljava/lang/Object;" } : Jvm.MethodName)) ∈ lw_tbl := lw_at lw_m6 168 rfl
theorem q1465 : (Jvm.Cond.code ({ cls := "java/util/ArrayDeque$DeqIterator", name := "next", desc := "()Ljava/lang/Object;" } : Jvm.MethodName) prog_61_method_3_code (3 : Nat) (Option.some (Jvm.ClassFile.FieldType.object "java/lang/Object"))) ∈ lw_all := lw_g (lw_at lw_m6 169 rfl) rfl
theorem q1466 : (Jvm.Cond.methodLink "java/util/ArrayDeque$DeqIterator" (39 : Nat) ({ cls := "java/util/ArrayDeque", name := "nonNullElementAt", desc := "([Ljava/lang/Object;I)Ljava/lang/Object;" } : Jvm.MethodName)) ∈ lw_all := lw_g (lw_at lw_m6 170 rfl) rfl
theorem q1469 : (Jvm.Cond.methodLink "java/util/ArrayDeque$DeqIterator" (43 : Nat) ({ cls := "java/util/ArrayDeque", name := "inc", desc := "(II)I" } : Jvm.MethodName)) ∈ lw_all := lw_g (lw_at lw_m6 173 rfl) rfl
theorem q2106 : (Jvm.Cond.selects "java/util/ArrayDeque$DeqIterator" ({ cls := "java/util/Iterator", name := "remove", desc := "()V" } : Jvm.MethodName) ({ cls := "java/util/ArrayDeque$DeqIterator", name := "remove", desc := "()V" } : Jvm.MethodName)) ∈ lw_all := lw_g (lw_at lw_m9 90 rfl) rfl
theorem q2107 : (Jvm.Cond.unhidden "java/util/ArrayDeque$DeqIterator" "remove" "()V") ∈ lw_tbl := lw_at lw_m9 91 rfl
theorem q2108 : (Jvm.Cond.instanceMethod ({ cls := "java/util/ArrayDeque$DeqIterator", name := "remove", desc := "()V" } : Jvm.MethodName)) ∈ lw_all := lw_g (lw_at lw_m9 92 rfl) rfl
theorem q2109 : (Jvm.Cond.publicMethod ({ cls := "java/util/ArrayDeque$DeqIterator", name := "remove", desc := "()V" } : Jvm.MethodName)) ∈ lw_tbl := lw_at lw_m9 93 rfl
theorem q2110 : (Jvm.Cond.code ({ cls := "java/util/ArrayDeque$DeqIterator", name := "remove", desc := "()V" } : Jvm.MethodName) prog_61_method_5_code (1 : Nat) (Option.none : Option Jvm.ClassFile.FieldType)) ∈ lw_all := lw_g (lw_at lw_m9 94 rfl) rfl
theorem q2111 : (Jvm.Cond.methodLink "java/util/ArrayDeque$DeqIterator" (53 : Nat) ({ cls := "java/util/ArrayDeque", name := "delete", desc := "(I)Z" } : Jvm.MethodName)) ∈ lw_all := lw_g (lw_at lw_m9 95 rfl) rfl
theorem q2122 : (Jvm.Cond.methodLink "java/util/ArrayDeque$DeqIterator" (57 : Nat) ({ cls := "java/util/ArrayDeque$DeqIterator", name := "postDelete", desc := "(Z)V" } : Jvm.MethodName)) ∈ lw_all := lw_g (lw_at lw_m9 106 rfl) rfl
theorem q2123 : (Jvm.Cond.instanceMethod ({ cls := "java/util/ArrayDeque$DeqIterator", name := "postDelete", desc := "(Z)V" } : Jvm.MethodName)) ∈ lw_all := lw_g (lw_at lw_m9 107 rfl) rfl
theorem q2124 : (Jvm.Cond.selects "java/util/ArrayDeque$DeqIterator" ({ cls := "java/util/ArrayDeque$DeqIterator", name := "postDelete", desc := "(Z)V" } : Jvm.MethodName) ({ cls := "java/util/ArrayDeque$DeqIterator", name := "postDelete", desc := "(Z)V" } : Jvm.MethodName)) ∈ lw_all := lw_g (lw_at lw_m9 108 rfl) rfl
theorem q2125 : (Jvm.Cond.code ({ cls := "java/util/ArrayDeque$DeqIterator", name := "postDelete", desc := "(Z)V" } : Jvm.MethodName) prog_61_method_4_code (2 : Nat) (Option.none : Option Jvm.ClassFile.FieldType)) ∈ lw_all := lw_g (lw_at lw_m9 109 rfl) rfl
theorem q2126 : (Jvm.Cond.methodLink "java/util/ArrayDeque$DeqIterator" (47 : Nat) ({ cls := "java/util/ArrayDeque", name := "dec", desc := "(II)I" } : Jvm.MethodName)) ∈ lw_all := lw_g (lw_at lw_m9 110 rfl) rfl
theorem q2391 : (Jvm.Cond.fieldLink "java/util/ArrayDeque$DeqIterator" (35 : Nat) "java/util/ArrayDeque" "elements" "[Ljava/lang/Object;") ∈ lw_all := lw_g (lw_at lw_m10 135 rfl) rfl
theorem q2392 : (Jvm.Cond.fieldLink "java/util/ArrayDeque$DeqIterator" (26 : Nat) "java/util/ArrayDeque" "head" "I") ∈ lw_all := lw_g (lw_at lw_m10 136 rfl) rfl
theorem q2650 : (Jvm.Cond.instantiable "java/util/ArrayDeque$DeqIterator" (4 : Nat)) ∈ lw_all := lw_g (lw_at lw_m11 154 rfl) rfl
theorem q2652 : (Jvm.Cond.instanceMethod ({ cls := "java/util/ArrayDeque$DeqIterator", name := "<init>", desc := "(Ljava/util/ArrayDeque;)V" } : Jvm.MethodName)) ∈ lw_all := lw_g (lw_at lw_m11 156 rfl) rfl
theorem q2653 : (Jvm.Cond.code ({ cls := "java/util/ArrayDeque$DeqIterator", name := "<init>", desc := "(Ljava/util/ArrayDeque;)V" } : Jvm.MethodName) prog_61_method_1_code (2 : Nat) (Option.none : Option Jvm.ClassFile.FieldType)) ∈ lw_all := lw_g (lw_at lw_m11 157 rfl) rfl
theorem q2654 : (Jvm.Cond.methodLink "java/util/ArrayDeque$DeqIterator" (7 : Nat) ({ cls := "java/lang/Object", name := "<init>", desc := "()V" } : Jvm.MethodName)) ∈ lw_all := lw_g (lw_at lw_m11 158 rfl) rfl
theorem q2655 : (Jvm.Cond.methodLink "java/util/ArrayDeque$DeqIterator" (13 : Nat) ({ cls := "java/util/ArrayDeque", name := "size", desc := "()I" } : Jvm.MethodName)) ∈ lw_all := lw_g (lw_at lw_m11 159 rfl) rfl
theorem q2659 : (Jvm.Cond.fieldLink "java/util/ArrayDeque$DeqIterator" (29 : Nat) "java/util/ArrayDeque$DeqIterator" "cursor" "I") ∈ lw_all := lw_g (lw_at lw_m11 163 rfl) rfl
theorem q2660 : (Jvm.Cond.fieldLink "java/util/ArrayDeque$DeqIterator" (19 : Nat) "java/util/ArrayDeque$DeqIterator" "remaining" "I") ∈ lw_all := lw_g (lw_at lw_m11 164 rfl) rfl
theorem q2661 : (Jvm.Cond.fieldLink "java/util/ArrayDeque$DeqIterator" (23 : Nat) "java/util/ArrayDeque$DeqIterator" "lastRet" "I") ∈ lw_all := lw_g (lw_at lw_m11 165 rfl) rfl
theorem q2662 : (Jvm.Cond.fieldLink "java/util/ArrayDeque$DeqIterator" (1 : Nat) "java/util/ArrayDeque$DeqIterator" "this$0" "Ljava/util/ArrayDeque;") ∈ lw_all := lw_g (lw_at lw_m11 166 rfl) rfl
theorem q2663 : (Jvm.Cond.lays "java/util/ArrayDeque$DeqIterator" "java/util/ArrayDeque$DeqIterator" "cursor" "I") ∈ lw_all := lw_g (lw_at lw_m11 167 rfl) rfl
theorem q2664 : (Jvm.Cond.soleField "java/util/ArrayDeque$DeqIterator" "cursor") ∈ lw_all := lw_g (lw_at lw_m11 168 rfl) rfl
theorem q2665 : (Jvm.Cond.lays "java/util/ArrayDeque$DeqIterator" "java/util/ArrayDeque$DeqIterator" "remaining" "I") ∈ lw_all := lw_g (lw_at lw_m11 169 rfl) rfl
theorem q2666 : (Jvm.Cond.soleField "java/util/ArrayDeque$DeqIterator" "remaining") ∈ lw_all := lw_g (lw_at lw_m11 170 rfl) rfl
theorem q2667 : (Jvm.Cond.lays "java/util/ArrayDeque$DeqIterator" "java/util/ArrayDeque$DeqIterator" "lastRet" "I") ∈ lw_all := lw_g (lw_at lw_m11 171 rfl) rfl
theorem q2668 : (Jvm.Cond.soleField "java/util/ArrayDeque$DeqIterator" "lastRet") ∈ lw_all := lw_g (lw_at lw_m11 172 rfl) rfl
theorem q2669 : (Jvm.Cond.laysFinal "java/util/ArrayDeque$DeqIterator" "java/util/ArrayDeque$DeqIterator" "this$0" "Ljava/util/ArrayDeque;") ∈ lw_all := lw_g (lw_at lw_m11 173 rfl) rfl
theorem q2670 : (Jvm.Cond.soleField "java/util/ArrayDeque$DeqIterator" "this$0") ∈ lw_all := lw_g (lw_at lw_m11 174 rfl) rfl
theorem q2671 : (Jvm.Cond.superclass "java/util/ArrayDeque$DeqIterator" "java/lang/Object") ∈ lw_all := lw_g (lw_at lw_m11 175 rfl) rfl
theorem q3352 : (Jvm.Cond.castable "java/util/ArrayDeque$DeqIterator" "java/lang/Object") ∈ lw_tbl := lw_at lw_m14 136 rfl
theorem in_J40 : ∀ w ∈ wsJ400, w ∈ lw_all := lw_in wsJ400 [2663, 2665, 2667, 2669] (by decide +kernel) (by decide +kernel)
