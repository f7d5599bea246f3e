/-! printed by gen/mkenv.py: the classes whose objects the worlds hold; what is known of tables and statics all through a run -/
set_option maxRecDepth 100000
def noT : u_T := fun _ => ("", "", "", false)
abbrev gCl : List vw_C := [(RX0, TX0, 7), (RX1, TX1, 7), (RX2, TX2, 1), (RX8, TX8, 13), (RX16, TX16, 6), (RX11, TX11, 6), (RX10, TX10, 5), (RX15, TX15, 4), (RX6, TX6, 3), (RX5, TX5, 2), (RX9, noT, 0), (RX18, TX18, 5), (RX19, TX19, 5), (RX20, TX20, 4), (RX14, TX14, 4), (RJ2, TJ2, 3), (RJ4, TJ4, 4), (RJ36, TJ36, 4), (RJ28, TJ28, 3), (RJ15, TJ15, 4), (RJ29, TJ29, 3), (RJ26, TJ26, 4), (RJ32, TJ32, 5), (RJ39, TJ39, 6), (RJ40, TJ40, 4), (RJ9, TJ9, 4), (RJ23, TJ23, 1), (RX7, TX7, 7), (RX4, TX4, 7)]
/-- the parameters: numbers of classes and slots, of array classes, addresses of constants, which cells are the run's own -/
abbrev gG : Type := va_G × (Nat → ClassId) × (Nat → Nat) × (Nat → Prop)
/-- words of the tables that don't ride in the lists -/
def gW (U : State) : Prop :=
  (∀ C T : String, Cond.castable C T ∈ lw_tbl → va_Nw (.castable C T) U) ∧
  (∀ (a : String) (i : Nat) (x : MethodName) (h : String), Cond.methodLinkNest a i x h ∈ lw_tbl → va_Nw (.methodLinkNest a i x h) U) ∧
  (∀ (a : String) (i : Nat) (b n d h : String), Cond.fieldLinkNest a i b n d h ∈ lw_tbl → va_Nw (.fieldLinkNest a i b n d h) U) ∧
  (∀ C : String, Cond.arrayOver (.object C) ∈ lw_tbl → va_AO C U) ∧
  (∀ x : MethodName, Cond.declares x ∈ lw_tbl → va_Nw (.declares x) U) ∧
  (∀ (C : String) (x y : MethodName), x.cls ≠ "java/lang/invoke/MethodHandle" ∧ x.cls ≠ "java/lang/invoke/VarHandle" → Cond.declares x ∈ lw_tbl → Cond.interfaceMethod x.cls x.cls x.name x.desc ∈ lw_tbl → Cond.publicMethod y ∈ lw_tbl → Cond.unhidden C x.name x.desc ∈ lw_tbl → Cond.castable C x.cls ∈ lw_tbl → va_Fw C x y U)
theorem gW.to {u U : State} (hW : u.WarmedH U.vm) (h : gW u) : gW U :=
  ⟨fun C T q => (h.1 C T q).warmC hW, fun a i x z q => (h.2.1 a i x z q).warmM hW, fun a i b n d z q => (h.2.2.1 a i b n d z q).warmF hW, fun C q => (h.2.2.2.1 C q).moved hW.alike, fun x q => (h.2.2.2.2.1 x q).warmD hW, fun C x y n a1 a2 a3 a4 a5 => (h.2.2.2.2.2 C x y n a1 a2 a3 a4 a5).moved n hW.alike⟩
/-- a static that may be null: 0 is null -/
def kO (n : Nat) : Option Nat := if n = 0 then none else some (n - 1)
def gWaits : Nat → Int32 := fun j => match j with
  | 0 => 1
  | 1 => 2
  | 2 => 3
  | 3 => 5
  | _ => 8
/-- pairs of classes: an object of the first is none of the second -/
def gNcL : List (String × String) := [("[B", "CreditBroker$Cause"), ("[B", "CreditBroker$Failure"), ("[B", "CreditBroker$Loss"), ("[B", "CreditBroker$Rejected"), ("[B", "CreditBroker$Late"), ("[B", "CreditBroker$Old"), ("[B", "CreditBroker$Overfull"), ("[S", "CreditBroker$Cause"), ("[S", "CreditBroker$Failure"), ("[S", "CreditBroker$Loss"), ("[S", "CreditBroker$Rejected"), ("[S", "CreditBroker$Late"), ("[S", "CreditBroker$Old"), ("[S", "CreditBroker$Overfull"), ("[I", "CreditBroker$Cause"), ("[I", "CreditBroker$Failure"), ("[I", "CreditBroker$Loss"), ("[I", "CreditBroker$Rejected"), ("[I", "CreditBroker$Late"), ("[I", "CreditBroker$Old"), ("[I", "CreditBroker$Overfull"), ("[J", "CreditBroker$Cause"), ("[J", "CreditBroker$Failure"), ("[J", "CreditBroker$Loss"), ("[J", "CreditBroker$Rejected"), ("[J", "CreditBroker$Late"), ("[J", "CreditBroker$Old"), ("[J", "CreditBroker$Overfull"), ("[Z", "CreditBroker$Cause"), ("[Z", "CreditBroker$Failure"), ("[Z", "CreditBroker$Loss"), ("[Z", "CreditBroker$Rejected"), ("[Z", "CreditBroker$Late"), ("[Z", "CreditBroker$Old"), ("[Z", "CreditBroker$Overfull"), ("CreditBroker$Rejected", "CreditBroker$Loss"), ("CreditBroker$Rejected", "CreditBroker$Late"), ("CreditBroker$Rejected", "CreditBroker$Old"), ("CreditBroker$Rejected", "CreditBroker$Overfull"), ("CreditBroker$Late", "CreditBroker$Loss"), ("CreditBroker$Late", "CreditBroker$Rejected"), ("CreditBroker$Late", "CreditBroker$Old"), ("CreditBroker$Late", "CreditBroker$Overfull"), ("CreditBroker$Old", "CreditBroker$Failure"), ("CreditBroker$Old", "CreditBroker$Rejected"), ("CreditBroker$Old", "CreditBroker$Late"), ("CreditBroker$Old", "CreditBroker$Overfull"), ("CreditBroker$Overfull", "CreditBroker$Failure"), ("CreditBroker$Overfull", "CreditBroker$Rejected"), ("CreditBroker$Overfull", "CreditBroker$Late"), ("CreditBroker$Overfull", "CreditBroker$Old"), ("[S", "[B"), ("[I", "[B"), ("[J", "[B"), ("[Z", "[B"), ("[I", "[S"), ("[J", "[S"), ("[Z", "[S"), ("[J", "[I"), ("[Z", "[I"), ("[Z", "[J"), ("java/lang/ArrayIndexOutOfBoundsException", "CreditBroker$Refused"), ("java/lang/ArrayStoreException", "java/lang/NullPointerException"), ("java/lang/ArrayIndexOutOfBoundsException", "java/lang/NullPointerException"), ("java/lang/ArrayIndexOutOfBoundsException", "java/lang/ArrayStoreException")]
/-- private methods of AbstractStringBuilder, called with a StringBuilder -/
def gPrivL : List MethodName := [⟨"java/lang/AbstractStringBuilder", "ensureCapacityInternal", "(I)V"⟩, ⟨"java/lang/AbstractStringBuilder", "newCapacity", "(I)I"⟩, ⟨"java/lang/AbstractStringBuilder", "putStringAt", "(ILjava/lang/String;)V"⟩, ⟨"java/lang/AbstractStringBuilder", "inflateIfNeededFor", "(Ljava/lang/String;)V"⟩]
def gStrLen : List Nat := [0, 1, 1]
def gStrByt : List (List Int32) := [[], [35], [42]]
/-- constants: 0 the array WAITS, 1 ArrayList's empty array, 2 the array of cached Integers, 3 4 5 the texts "", "#", "*", 10 11 12 their bytes, 200 .. 455 the cached Integers -/
def gZ (G : gG) (U : State) (H : Heap) : Prop :=
  (va_Z "CreditBroker" "WAITS" "[I" (.ref (G.2.2.1 0)) G.2.2.2 U H ∧ va_T .int (G.2.2.1 0) 5 (fun j => .int (gWaits j)) G.2.2.2 U H) ∧
  (vk_R "CreditBroker$Reader" 50 "" (G.2.2.1 3) U ∧ vk_R "CreditBroker$Reader" 73 "#" (G.2.2.1 4) U ∧ vk_R "CreditBroker$Pattern" 24 "#" (G.2.2.1 4) U ∧ vk_R "CreditBroker$Pattern" 43 "*" (G.2.2.1 5) U ∧ vk_S 3 gStrLen gStrByt (fun i => G.2.2.1 (3 + i)) (fun i => G.2.2.1 (10 + i)) G.2.2.2 U H) ∧
  (∀ q ∈ gNcL, va_Nc q.1 q.2 U) ∧
  (va_Z "java/util/ArrayList" "DEFAULTCAPACITY_EMPTY_ELEMENTDATA" "[Ljava/lang/Object;" (.ref (G.2.2.1 1)) G.2.2.2 U H ∧ va_T (.object "java/lang/Object") (G.2.2.1 1) 0 (fun _ => .null) G.2.2.2 U H) ∧
  (va_Z "java/lang/Integer$IntegerCache" "high" "I" (.int 127) G.2.2.2 U H ∧ va_Z "java/lang/Integer$IntegerCache" "cache" "[Ljava/lang/Integer;" (.ref (G.2.2.1 2)) G.2.2.2 U H ∧ va_T (.object "java/lang/Integer") (G.2.2.1 2) 256 (fun j => .ref (G.2.2.1 (200 + j))) G.2.2.2 U H ∧ vb_C (fun j => G.2.2.1 (200 + j)) G.2.2.2 U H) ∧
  va_Z "java/lang/String" "COMPACT_STRINGS" "Z" (.int 1) G.2.2.2 U H ∧ gL G U H ∧
  (va_Z "java/lang/Throwable" "UNASSIGNED_STACK" "[Ljava/lang/StackTraceElement;" (va_rf (kO (G.2.2.1 8))) G.2.2.2 U H ∧ va_Z "java/lang/Throwable" "SUPPRESSED_SENTINEL" "Ljava/util/List;" (va_rf (kO (G.2.2.1 9))) G.2.2.2 U H ∧ vx_L "java/lang/Throwable" "UNASSIGNED_STACK" "[Ljava/lang/StackTraceElement;" G.2.2.2 U H ∧ vx_L "java/lang/Throwable" "SUPPRESSED_SENTINEL" "Ljava/util/List;" G.2.2.2 U H) ∧
  (va_Z "jdk/internal/util/Preconditions" "SIOOBE_FORMATTER" "Ljava/util/function/BiFunction;" (va_rf (kO (G.2.2.1 15))) G.2.2.2 U H ∧ va_Mi "[Ljava/lang/Object;" (G.2.2.1 14) U ∧ modulesRight_1 U = true ∧ va_O "[Ljava/lang/Object;" (G.2.2.1 1) G.2.2.2 U H ∧ ∀ y ∈ gPrivL, va_Nw (.selects "java/lang/StringBuilder" y y) U)
theorem gZ.to {G : gG} {u U : State} {H H1 : Heap} (hvm : u.vm.Alike U.vm) (hW : u.WarmedH U.vm) (hk : ∀ a : Nat, a < H.size → ¬ G.2.2.2 a → H1[a]? = H[a]?) (h : gZ G u H) : gZ G U H1 := by
  obtain ⟨⟨a1, a2⟩, ⟨b1, b2, b3, b4, b5⟩, c1, ⟨d1, d2⟩, ⟨e1, e2, e3, e4⟩, f1, l1, ⟨g1, g2, g3, g4⟩, ⟨h1, h2, h3, h4, h5⟩⟩ := h
  exact ⟨⟨(a1.moved hvm).kept hk, (a2.moved hvm).kept hk⟩, ⟨b1.warm hW, b2.warm hW, b3.warm hW, b4.warm hW, (b5.moved hvm).kept hk⟩, fun q hq => (c1 q hq).moved hvm, ⟨(d1.moved hvm).kept hk, (d2.moved hvm).kept hk⟩, ⟨(e1.moved hvm).kept hk, (e2.moved hvm).kept hk, (e3.moved hvm).kept hk, (e4.moved hvm).kept hk⟩, (f1.moved hvm).kept hk, l1.to hW hk, ⟨(g1.moved hvm).kept hk, (g2.moved hvm).kept hk, (g3.moved hvm).kept hk, (g4.moved hvm).kept hk⟩, ⟨(h1.moved hvm).kept hk, h2.moved hvm, by rw [← h3]; unfold modulesRight_1; rw [hvm.1], (h4.moved hvm).kept hk, fun y hy => word_at hW (Or.inl rfl) (h5 y hy)⟩⟩

