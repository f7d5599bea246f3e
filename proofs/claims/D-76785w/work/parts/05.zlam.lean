/-! LAMBDAS: the eight sites -/
theorem lam_methodIn {vm : Vm} {c i : Nat} {name desc : String} {via : Bool} {ck : Class} (e : Setting)
    (hc : vm.classes[c]? = some ck) (hvia : ck.isInterface = via) (hpoly : ∀ y, signaturePolymorphic ck y = false) (hi : ck.findMethod name desc = some i) :
    (methodIn c name desc via none).Gives e vm (.ok ⟨c, i⟩) vm := by
  unfold methodIn
  refine (getClass_gives e hc).bind ?_
  have hany : ∀ j : Nat, Option.any (signaturePolymorphic ck) ck.methods[j]? = false := fun j => by cases ck.methods[j]? <;> simp [hpoly]
  have hlook : lookupInSuperclasses vm name desc (vm.classes.size + 1) c = some ⟨c, i⟩ := by simp [lookupInSuperclasses, hc, hi]
  have hor : ∀ (x : MethodId) (y : Option MethodId), (some x <|> y) = some x := fun _ _ => rfl
  simp only [hvia, bne_self_eq_false, Bool.false_eq_true, if_false, hany]
  generalize (List.filter (fun i => Option.any (fun x => x.name == name) ck.methods[i]?) (List.range ck.methods.size)) = L
  rcases L with _ | ⟨j, _ | ⟨j', L⟩⟩ <;> cases via <;>
  · simp only [Option.isSome_none, Option.isNone_none, Bool.false_eq_true, if_false, Bool.and_self, if_true]
    refine VmM.Gives.getVm.bind ?_
    simp only [hlook, hor, hi]
    refine (getEnv_gives e vm).bind ?_
    refine (getClass_gives e hc).bind ?_
    exact (VmM.Gives.mark _).bind (.pure _)
theorem gives_ask {α : Type} {m : VmM α} {e : Setting} {vm vm' : Vm} {r : Except LinkFail α} (h : m.Gives e vm r vm') : (m.ask e vm).1 = r := by
  obtain ⟨ms, h1⟩ := h []
  simp [VmM.ask, h1]
/-- a site's linking, and the class made for it (tables only) -/
def lamT (x : MethodName) (pc index : Nat) (σ : Lambda.Shape) (c : ClassId) (one : Option Nat) (U : State) : Prop :=
  ∃ (m : MethodId) (k : Class) (cf : ClassFile) (i0 p0 : Nat), U.methodNamed? x = some m ∧ U.vm.classes[m.cls]? = some k ∧ k.cf = some cf ∧ Lambda.shapeOf? cf index = some σ ∧
    (k.callSites.find? fun y => y.1 == m.idx && y.2.1 == pc) = some (i0, p0, match one with | some a => Linked.constant a | none => Linked.makes c) ∧
    Lambda.isMade { classPath := fun _ => none } U.vm m.cls σ c = true ∧ U.lambdaCallable σ c = true
theorem lamT.of {x : MethodName} {pc index : Nat} {σ : Lambda.Shape} {c : ClassId} {one : Option Nat} {U : State} (h : U.lambdaAt? x pc index σ = some (c, one)) : lamT x pc index σ c one U := by
  obtain ⟨m, k, cf, i0, p0, l, h1, h2, h3, h4, -, h6, h7, h8, h9⟩ := State.lambdaAt?_spec h
  rcases h9 with ⟨a, cell, rfl, rfl, -⟩ | ⟨rfl, rfl, -⟩
  · exact ⟨m, k, cf, i0, p0, h1, h2, h3, h4, h6, h7, h8⟩
  · exact ⟨m, k, cf, i0, p0, h1, h2, h3, h4, h6, h7, h8⟩
theorem lamT.warm {x : MethodName} {pc index : Nat} {σ : Lambda.Shape} {c : ClassId} {one : Option Nat} {u U : State} (hW : u.WarmedH U.vm) (h : lamT x pc index σ c one u) : lamT x pc index σ c one U := by
  obtain ⟨m, k, cf, i0, p0, h1, h2, h3, h4, h6, h7, h8⟩ := h
  obtain ⟨k', hk', he⟩ := hW.alike.2.2 _ _ h2
  have hm' : U.methodNamed? x = some m := by
    have := State.methodNamed?_setVm (s := u) hW.alike x
    rw [h1] at this
    exact this
  have hc : U.lambdaCallable σ c = true := by
    have hA := hW.alike
    simp only [State.lambdaCallable, hA.findClass, hA.assignable, hA.superclasses, hA.declaredIn] at h8 ⊢
    exact h8
  exact ⟨m, k', cf, i0, p0, hm', hk', by rw [he]; exact h3, h4, by rw [he]; exact h6, Lambda.isMade_warmer hW h7, hc⟩
/-- what the kernel knows of a shape: its class file, the second method, the fields -/
def LamC (σ : Lambda.Shape) (caller : String) (D : ClassFile) (fw : Method) (F : Array Field × Array FieldType × Array FieldType) (code : ByteArray) (ret : FieldType) (mi mci mnt mcn : Nat) : Prop :=
  σ.file caller = some D ∧ (∀ ms, layoutMethods D = some ms → ms[1]? = some fw) ∧ layoutFields D 0 = some F ∧ (fw.code.map fun c => (c.code.data, c.maxLocals)) = some (code.data, 2) ∧ (fw.accessFlags, fw.sig.returnType) = (0x0001, some ret) ∧
  (D.constantPool[mi]? = some (.methodref mci mnt) ∧ D.constantPool.className? mci = some σ.implClass ∧ D.constantPool.nameAndType? mnt = some (σ.implName, σ.implDesc.toString)) ∧
  (D.constantPool[mci]? = some (.class_ mcn) ∧ D.constantPool.string? mcn = some σ.implClass ∧ mci ≠ D.thisClass) ∧
  plainName (caller ++ "$$Lambda") = true ∧ (σ.implClass ≠ "java/lang/invoke/MethodHandle" ∧ σ.implClass ≠ "java/lang/invoke/VarHandle") ∧ σ.implItf = false
/-- what a walk asks of the made class -/
def lamF (e : Env) (U : State) (c : ClassId) (D : ClassFile) (F : Array Field × Array FieldType × Array FieldType) (code : ByteArray) (ret : FieldType) (mi mci : Nat) (x y : MethodName) (t r0 : MethodId) (k methk_k : Class) (methk : Method) (ck : Code) : Prop :=
  U.vm.classes[c]? = some k ∧ k.instanceTypes = F.2.1 ∧ k.kind = .ordinary ∧ U.vm.method? ⟨c, 1⟩ = some methk ∧ methk.code = some ck ∧ ck.code = code ∧ ck.maxLocals = 2 ∧ methk.locks = false ∧ methk.accessFlags = 0x0001 ∧ methk.sig.returnType = some ret ∧ U.plainMethod ⟨c, 1⟩ ∧
  (∃ b, ((memberRef c mi).ask e.toSetting U.vm).1 = .ok (mci, y.name, y.desc, b)) ∧ U.vm.classReady c mci t.cls ∧ U.vm.methodReady c mi t ∧ U.vm.classes[t.cls]? = some methk_k ∧ methk_k.isInterface = false ∧ (∀ z, signaturePolymorphic methk_k z = false) ∧ U.methodNamed? y = some t ∧
  U.methodNamed? x = some r0 ∧ selectMethod {} U.vm c r0 = .method ⟨c, 1⟩ ∧
  (∀ (fi fci fnt : Nat) (nm ds : String) (g0 : Field), D.constantPool[fi]? = some (.fieldref fci fnt) → D.constantPool.nameAndType? fnt = some (nm, ds) → F.1.findIdx? (·.name == nm) = some 0 → F.1[0]? = some g0 → U.vm.fieldReady c fi c g0) ∧
  (∃ i, U.vm.findClass x.cls = some i ∧ U.vm.assignable c i = true ∧ ((c :: U.vm.superclasses c).any fun k => (declaredIn U.vm x.name x.desc k).any fun (_, z) => z.isPrivate || z.isStatic) = false) ∧
  (∃ file n, k.cf = some file ∧ file.constantPool[mi]? = some (.methodref mci n))
theorem lam_facts {σ : Lambda.Shape} {caller : String} {D : ClassFile} {fw : Method} {F : Array Field × Array FieldType × Array FieldType} {code : ByteArray} {ret : FieldType} {mi mci mnt mcn pc index : Nat} {xm x y : MethodName} {c : ClassId} {one : Option Nat} {U : State} {args : Array Value} (e : Env)
    (hL : LamC σ caller D fw F code ret mi mci mnt mcn) (hT : lamT xm pc index σ c one U) (hxm : xm.cls = caller) (hO : (Cond.instantiable "java/lang/Object" 0).before args U = true)
    (hy : y = ⟨σ.implClass, σ.implName, σ.implDesc.toString⟩) (hx : x = ⟨σ.iface, σ.name, σ.sam.toString⟩) {ty : MethodId} (hyn : U.methodNamed? y = some ty) (hface : (Cond.interfaceMethod x.cls x.cls x.name x.desc).before args U = true) :
    ∃ (r0 : MethodId) (k tk : Class) (methk : Method) (ck : Code), lamF e U c D F code ret mi mci x y ty r0 k tk methk ck := by
  subst hy hx
  obtain ⟨hLfile, hLsec, hLlaid, hLfc, hLff, hLeM, hLeC, hLplain, hLmh, hLitf⟩ := hL
  obtain ⟨m, kd, cfd, i0, p0, h1, h2, h3, h4, h6, h7, h8⟩ := hT
  obtain ⟨kx, hkx, hnx⟩ := className_of_methodNamed h1
  cases h2.symm.trans hkx
  obtain ⟨dk', k, ok, tk, file, cf, object, iface, tc, lay, methods, target, found, hd', hk, hfile, hcf, hobj, hif, hok, hlay, hms, ht, htk, hg, hfound, hrec, -, -, -, hitf, hpool, hmeth, hfields, hty, hres, hsel⟩ := Lambda.isMade_spec h7
  cases h2.symm.trans hd'
  rw [hnx, hxm, hLfile] at hcf
  cases hcf
  obtain ⟨cO, kO, hfO, hkO, -, -, -, hsz⟩ := Cond.instantiable_spec hO
  cases hfO.symm.trans hobj
  cases hkO.symm.trans hok
  rw [hsz, hLlaid] at hlay
  cases hlay
  obtain ⟨b, hb, hsame⟩ := hmeth 1 fw (hLsec methods hms)
  simp only [Lambda.sameMethod, Bool.and_eq_true, decide_eq_true_eq] at hsame
  obtain ⟨⟨hn, -, hsig, hfl⟩, hcode⟩ := hsame
  have fc := hLfc
  have ff := hLff
  simp only [Prod.mk.injEq] at ff
  obtain ⟨ky, hky, hny⟩ := className_of_methodNamed hyn
  have htcls : ty.cls = tc := Option.some.inj ((findClass_of_methodNamed hyn).symm.trans ht)
  have hitf2 : tk.isInterface = false := hitf.trans hLitf
  cases (htcls ▸ hky).symm.trans htk
  have hpoly : ∀ z, signaturePolymorphic tk z = false := fun z => signaturePolymorphic_of_name (by rw [hny]; exact hLmh) z
  have htarget : target = ty := by
    simp only [State.methodNamed?, Option.bind_eq_bind, Option.bind_eq_some_iff, Option.pure_def] at hyn
    obtain ⟨c2, hc2, k2, hk2, i2, hi2, he2⟩ := hyn
    cases hc2.symm.trans ht
    cases hk2.symm.trans htk
    have hgive := gives_ask (lam_methodIn { classPath := fun _ => none } htk rfl hpoly hi2)
    rw [hg] at hgive
    cases hgive
    exact Option.some.inj he2
  subst htarget
  obtain ⟨cI, kI, r0, hcI, hkI, hiI, hfoundI, hnI⟩ := Cond.interfaceMethod_spec hface
  have hfr : found = r0 := by
    simp only [State.methodFound?, Option.bind_eq_bind, Option.bind_eq_some_iff] at hfoundI
    obtain ⟨c3, hc3, k3, hk3, he3⟩ := hfoundI
    cases hc3.symm.trans hcI
    cases hk3.symm.trans hkI
    cases hcI.symm.trans hif
    rw [hiI, hfound] at he3
    exact Option.some.inj he3
  subst hfr
  obtain ⟨i2, hi2, hasg, hway⟩ := State.lambdaCallable_spec h8
  have hemp : ok.instanceTypes = #[] := Array.eq_empty_of_size_eq_zero hsz
  cases hfc : fw.code with
  | none => rw [hfc] at fc; cases fc
  | some cx =>
    cases hbc : b.code with
    | none => simp [hfc, hbc] at hcode
    | some cy =>
      simp only [hfc, hbc, Bool.and_eq_true, decide_eq_true_eq] at hcode
      simp only [hfc, Option.map_some, Option.some.injEq, Prod.mk.injEq] at fc
      refine ⟨found, k, tk, b, cy, hk, by rw [hty.1, hemp]; simp, hrec.2.1, by simp [Vm.method?, hk, hb], hbc, ?_, by rw [← hcode.1.1.1.1.2.1]; exact fc.2, ?_, by rw [← hfl]; exact ff.1, by rw [← hsig]; exact ff.2,
        State.plainMethod.of_name (fun k' hk' => by cases hk.symm.trans hk'; rw [hrec.1, hnx, hxm]; exact hLplain),
        memberRef_ask' (e := e) hk hfile (Or.inl (by rw [hpool.2.1]; exact hLeM.1)) (by rw [hpool.2.1]; exact hLeM.2.2), ⟨k, hk, by rw [htcls]; exact hres mci _ (Lambda.resolvedOf_class hLeC.1 hLeC.2.2 hLeC.2.1 ht)⟩,
        ⟨k, hk, hres mi _ (Lambda.resolvedOf_method hLeM.1 hLeM.2.1 ht htk hLeM.2.2 hg)⟩, by rw [htcls]; exact htk, hitf2, hpoly, hyn, hnI, hsel, ?_, ⟨i2, hi2, hasg, hway⟩, ⟨file, mnt, hfile, by rw [hpool.2.1]; exact hLeM.1⟩⟩
      · rw [← hcode.1.1.1.1.2.2]
        exact ByteArray.ext fc.1
      · simp [Method.locks, Method.isSynchronized, ← hfl, ff.1, hasFlag, Acc.synchronized]
      · intro fi fci fnt nm ds g0 a1 a2 a3 a4
        exact ⟨k, 0, k, hk, hres fi _ (Lambda.resolvedOf_field a1 a2 a3), hk, hfields 0 _ a4⟩
/-! the eight shapes (printed by gen/lamgen.py) -/
def lcode_cap : ByteArray := ⟨#[0x2a, 0xb4, 0x00, 0x0f, 0x2b, 0xb8, 0x00, 0x17, 0xac]⟩
theorem ld_cap_0 : decode lcode_cap 0 = .ok (.aload_n 0, 1) := by decide +kernel
theorem ld_cap_1 : decode lcode_cap 1 = .ok (.getfield 15, 3) := by decide +kernel
theorem ld_cap_4 : decode lcode_cap 4 = .ok (.aload_n 1, 1) := by decide +kernel
theorem ld_cap_5 : decode lcode_cap 5 = .ok (.invokestatic 23, 3) := by decide +kernel
theorem ld_cap_8 : decode lcode_cap 8 = .ok (.ireturn, 1) := by decide +kernel
def lcode_none : ByteArray := ⟨#[0x2b, 0xb8, 0x00, 0x11, 0xac]⟩
theorem ld_none_0 : decode lcode_none 0 = .ok (.aload_n 1, 1) := by decide +kernel
theorem ld_none_1 : decode lcode_none 1 = .ok (.invokestatic 17, 3) := by decide +kernel
theorem ld_none_4 : decode lcode_none 4 = .ok (.ireturn, 1) := by decide +kernel
def lcode_virt : ByteArray := ⟨#[0x2a, 0xb4, 0x00, 0x0f, 0x2b, 0xb6, 0x00, 0x16, 0xac]⟩
theorem ld_virt_0 : decode lcode_virt 0 = .ok (.aload_n 0, 1) := by decide +kernel
theorem ld_virt_1 : decode lcode_virt 1 = .ok (.getfield 15, 3) := by decide +kernel
theorem ld_virt_4 : decode lcode_virt 4 = .ok (.aload_n 1, 1) := by decide +kernel
theorem ld_virt_5 : decode lcode_virt 5 = .ok (.invokevirtual 22, 3) := by decide +kernel
theorem ld_virt_8 : decode lcode_virt 8 = .ok (.ireturn, 1) := by decide +kernel
def lsh1 : Lambda.Shape := ({ iface := "CreditBroker$Which", name := "is", sam := ({ parameters := [(Jvm.ClassFile.FieldType.object "CreditBroker$Letter")], returnType := (Option.some Jvm.ClassFile.FieldType.boolean) } : Jvm.ClassFile.MethodDescriptor), captured := [(Jvm.ClassFile.FieldType.object "CreditBroker$Consumer")], kind := 6, implClass := "CreditBroker", implName := "lambda$manyOut$0", implDesc := ({ parameters := [(Jvm.ClassFile.FieldType.object "CreditBroker$Consumer"), (Jvm.ClassFile.FieldType.object "CreditBroker$Letter")], returnType := (Option.some Jvm.ClassFile.FieldType.boolean) } : Jvm.ClassFile.MethodDescriptor), implItf := false, inst := ({ parameters := [(Jvm.ClassFile.FieldType.object "CreditBroker$Letter")], returnType := (Option.some Jvm.ClassFile.FieldType.boolean) } : Jvm.ClassFile.MethodDescriptor) } : Jvm.Lambda.Shape)
def lxm1 : MethodName := ({ cls := "CreditBroker", name := "manyOut", desc := "(LCreditBroker$Consumer;)I" } : Jvm.MethodName)
def lD1 : ClassFile := (lsh1.file "CreditBroker").getD { minorVersion := 0, majorVersion := 0, constantPool := #[], accessFlags := 0, thisClass := 0, superClass := 0, interfaces := #[], fields := #[], methods := #[], attributes := #[] }
def lf1 : Method := ((layoutMethods lD1).bind (·[1]?)).getD default
def lF1 : Array Field × Array FieldType × Array FieldType := (layoutFields lD1 0).getD (#[], #[], #[])
theorem lC1 : LamC lsh1 "CreditBroker" lD1 lf1 lF1 lcode_cap (.boolean) 23 19 22 18 := by
  refine ⟨?_, ?_, ?_, by decide +kernel, by decide +kernel, by decide +kernel, by decide +kernel, by decide +kernel, by decide +kernel, by decide +kernel⟩
  · have h : (lsh1.file "CreditBroker").isSome = true := by decide +kernel
    obtain ⟨x, hx⟩ := Option.isSome_iff_exists.mp h
    simp [lD1, hx]
  · intro ms hms
    have h : ((layoutMethods lD1).bind (·[1]?)).isSome = true := by decide +kernel
    obtain ⟨x, hx⟩ := Option.isSome_iff_exists.mp h
    have hf : lf1 = x := by simp [lf1, hx]
    rw [hms] at hx
    rw [hf]
    exact hx
  · have h : (layoutFields lD1 0).isSome = true := by decide +kernel
    obtain ⟨x, hx⟩ := Option.isSome_iff_exists.mp h
    simp [lF1, hx]
theorem lE1 : lD1.constantPool[15]? = some (.fieldref 2 14) ∧ lD1.constantPool.nameAndType? 14 = some ("arg$1", "LCreditBroker$Consumer;") ∧ lF1.1.findIdx? (·.name == "arg$1") = some 0 ∧ (lF1.1[0]?).map (fun f => (f.isStatic, f.slot)) = some (false, 0) := by decide +kernel
theorem lT1 : lF1.2.1 = #[.object "CreditBroker$Consumer"] := by decide +kernel
def lsh2 : Lambda.Shape := ({ iface := "CreditBroker$Which", name := "is", sam := ({ parameters := [(Jvm.ClassFile.FieldType.object "CreditBroker$Letter")], returnType := (Option.some Jvm.ClassFile.FieldType.boolean) } : Jvm.ClassFile.MethodDescriptor), captured := [Jvm.ClassFile.FieldType.int], kind := 6, implClass := "CreditBroker", implName := "lambda$queueOf$1", implDesc := ({ parameters := [Jvm.ClassFile.FieldType.int, (Jvm.ClassFile.FieldType.object "CreditBroker$Letter")], returnType := (Option.some Jvm.ClassFile.FieldType.boolean) } : Jvm.ClassFile.MethodDescriptor), implItf := false, inst := ({ parameters := [(Jvm.ClassFile.FieldType.object "CreditBroker$Letter")], returnType := (Option.some Jvm.ClassFile.FieldType.boolean) } : Jvm.ClassFile.MethodDescriptor) } : Jvm.Lambda.Shape)
def lxm2 : MethodName := ({ cls := "CreditBroker", name := "queueOf", desc := "(II)I" } : Jvm.MethodName)
def lD2 : ClassFile := (lsh2.file "CreditBroker").getD { minorVersion := 0, majorVersion := 0, constantPool := #[], accessFlags := 0, thisClass := 0, superClass := 0, interfaces := #[], fields := #[], methods := #[], attributes := #[] }
def lf2 : Method := ((layoutMethods lD2).bind (·[1]?)).getD default
def lF2 : Array Field × Array FieldType × Array FieldType := (layoutFields lD2 0).getD (#[], #[], #[])
theorem lC2 : LamC lsh2 "CreditBroker" lD2 lf2 lF2 lcode_cap (.boolean) 23 19 22 18 := by
  refine ⟨?_, ?_, ?_, by decide +kernel, by decide +kernel, by decide +kernel, by decide +kernel, by decide +kernel, by decide +kernel, by decide +kernel⟩
  · have h : (lsh2.file "CreditBroker").isSome = true := by decide +kernel
    obtain ⟨x, hx⟩ := Option.isSome_iff_exists.mp h
    simp [lD2, hx]
  · intro ms hms
    have h : ((layoutMethods lD2).bind (·[1]?)).isSome = true := by decide +kernel
    obtain ⟨x, hx⟩ := Option.isSome_iff_exists.mp h
    have hf : lf2 = x := by simp [lf2, hx]
    rw [hms] at hx
    rw [hf]
    exact hx
  · have h : (layoutFields lD2 0).isSome = true := by decide +kernel
    obtain ⟨x, hx⟩ := Option.isSome_iff_exists.mp h
    simp [lF2, hx]
theorem lE2 : lD2.constantPool[15]? = some (.fieldref 2 14) ∧ lD2.constantPool.nameAndType? 14 = some ("arg$1", "I") ∧ lF2.1.findIdx? (·.name == "arg$1") = some 0 ∧ (lF2.1[0]?).map (fun f => (f.isStatic, f.slot)) = some (false, 0) := by decide +kernel
theorem lT2 : lF2.2.1 = #[.int] := by decide +kernel
def lsh3 : Lambda.Shape := ({ iface := "CreditBroker$Which", name := "is", sam := ({ parameters := [(Jvm.ClassFile.FieldType.object "CreditBroker$Letter")], returnType := (Option.some Jvm.ClassFile.FieldType.boolean) } : Jvm.ClassFile.MethodDescriptor), captured := [Jvm.ClassFile.FieldType.int], kind := 6, implClass := "CreditBroker", implName := "lambda$held$2", implDesc := ({ parameters := [Jvm.ClassFile.FieldType.int, (Jvm.ClassFile.FieldType.object "CreditBroker$Letter")], returnType := (Option.some Jvm.ClassFile.FieldType.boolean) } : Jvm.ClassFile.MethodDescriptor), implItf := false, inst := ({ parameters := [(Jvm.ClassFile.FieldType.object "CreditBroker$Letter")], returnType := (Option.some Jvm.ClassFile.FieldType.boolean) } : Jvm.ClassFile.MethodDescriptor) } : Jvm.Lambda.Shape)
def lxm3 : MethodName := ({ cls := "CreditBroker", name := "held", desc := "(II)I" } : Jvm.MethodName)
def lD3 : ClassFile := (lsh3.file "CreditBroker").getD { minorVersion := 0, majorVersion := 0, constantPool := #[], accessFlags := 0, thisClass := 0, superClass := 0, interfaces := #[], fields := #[], methods := #[], attributes := #[] }
def lf3 : Method := ((layoutMethods lD3).bind (·[1]?)).getD default
def lF3 : Array Field × Array FieldType × Array FieldType := (layoutFields lD3 0).getD (#[], #[], #[])
theorem lC3 : LamC lsh3 "CreditBroker" lD3 lf3 lF3 lcode_cap (.boolean) 23 19 22 18 := by
  refine ⟨?_, ?_, ?_, by decide +kernel, by decide +kernel, by decide +kernel, by decide +kernel, by decide +kernel, by decide +kernel, by decide +kernel⟩
  · have h : (lsh3.file "CreditBroker").isSome = true := by decide +kernel
    obtain ⟨x, hx⟩ := Option.isSome_iff_exists.mp h
    simp [lD3, hx]
  · intro ms hms
    have h : ((layoutMethods lD3).bind (·[1]?)).isSome = true := by decide +kernel
    obtain ⟨x, hx⟩ := Option.isSome_iff_exists.mp h
    have hf : lf3 = x := by simp [lf3, hx]
    rw [hms] at hx
    rw [hf]
    exact hx
  · have h : (layoutFields lD3 0).isSome = true := by decide +kernel
    obtain ⟨x, hx⟩ := Option.isSome_iff_exists.mp h
    simp [lF3, hx]
theorem lE3 : lD3.constantPool[15]? = some (.fieldref 2 14) ∧ lD3.constantPool.nameAndType? 14 = some ("arg$1", "I") ∧ lF3.1.findIdx? (·.name == "arg$1") = some 0 ∧ (lF3.1[0]?).map (fun f => (f.isStatic, f.slot)) = some (false, 0) := by decide +kernel
theorem lT3 : lF3.2.1 = #[.int] := by decide +kernel
def lsh4 : Lambda.Shape := ({ iface := "CreditBroker$Which", name := "is", sam := ({ parameters := [(Jvm.ClassFile.FieldType.object "CreditBroker$Letter")], returnType := (Option.some Jvm.ClassFile.FieldType.boolean) } : Jvm.ClassFile.MethodDescriptor), captured := [(Jvm.ClassFile.FieldType.object "CreditBroker$Message")], kind := 6, implClass := "CreditBroker", implName := "lambda$messageOf$3", implDesc := ({ parameters := [(Jvm.ClassFile.FieldType.object "CreditBroker$Message"), (Jvm.ClassFile.FieldType.object "CreditBroker$Letter")], returnType := (Option.some Jvm.ClassFile.FieldType.boolean) } : Jvm.ClassFile.MethodDescriptor), implItf := false, inst := ({ parameters := [(Jvm.ClassFile.FieldType.object "CreditBroker$Letter")], returnType := (Option.some Jvm.ClassFile.FieldType.boolean) } : Jvm.ClassFile.MethodDescriptor) } : Jvm.Lambda.Shape)
def lxm4 : MethodName := ({ cls := "CreditBroker", name := "messageOf", desc := "(II)I" } : Jvm.MethodName)
def lD4 : ClassFile := (lsh4.file "CreditBroker").getD { minorVersion := 0, majorVersion := 0, constantPool := #[], accessFlags := 0, thisClass := 0, superClass := 0, interfaces := #[], fields := #[], methods := #[], attributes := #[] }
def lf4 : Method := ((layoutMethods lD4).bind (·[1]?)).getD default
def lF4 : Array Field × Array FieldType × Array FieldType := (layoutFields lD4 0).getD (#[], #[], #[])
theorem lC4 : LamC lsh4 "CreditBroker" lD4 lf4 lF4 lcode_cap (.boolean) 23 19 22 18 := by
  refine ⟨?_, ?_, ?_, by decide +kernel, by decide +kernel, by decide +kernel, by decide +kernel, by decide +kernel, by decide +kernel, by decide +kernel⟩
  · have h : (lsh4.file "CreditBroker").isSome = true := by decide +kernel
    obtain ⟨x, hx⟩ := Option.isSome_iff_exists.mp h
    simp [lD4, hx]
  · intro ms hms
    have h : ((layoutMethods lD4).bind (·[1]?)).isSome = true := by decide +kernel
    obtain ⟨x, hx⟩ := Option.isSome_iff_exists.mp h
    have hf : lf4 = x := by simp [lf4, hx]
    rw [hms] at hx
    rw [hf]
    exact hx
  · have h : (layoutFields lD4 0).isSome = true := by decide +kernel
    obtain ⟨x, hx⟩ := Option.isSome_iff_exists.mp h
    simp [lF4, hx]
theorem lE4 : lD4.constantPool[15]? = some (.fieldref 2 14) ∧ lD4.constantPool.nameAndType? 14 = some ("arg$1", "LCreditBroker$Message;") ∧ lF4.1.findIdx? (·.name == "arg$1") = some 0 ∧ (lF4.1[0]?).map (fun f => (f.isStatic, f.slot)) = some (false, 0) := by decide +kernel
theorem lT4 : lF4.2.1 = #[.object "CreditBroker$Message"] := by decide +kernel
def lsh5 : Lambda.Shape := ({ iface := "CreditBroker$Which", name := "is", sam := ({ parameters := [(Jvm.ClassFile.FieldType.object "CreditBroker$Letter")], returnType := (Option.some Jvm.ClassFile.FieldType.boolean) } : Jvm.ClassFile.MethodDescriptor), captured := [], kind := 6, implClass := "CreditBroker", implName := "lambda$blocked$4", implDesc := ({ parameters := [(Jvm.ClassFile.FieldType.object "CreditBroker$Letter")], returnType := (Option.some Jvm.ClassFile.FieldType.boolean) } : Jvm.ClassFile.MethodDescriptor), implItf := false, inst := ({ parameters := [(Jvm.ClassFile.FieldType.object "CreditBroker$Letter")], returnType := (Option.some Jvm.ClassFile.FieldType.boolean) } : Jvm.ClassFile.MethodDescriptor) } : Jvm.Lambda.Shape)
def lxm5 : MethodName := ({ cls := "CreditBroker", name := "blocked", desc := "(I)I" } : Jvm.MethodName)
def lD5 : ClassFile := (lsh5.file "CreditBroker").getD { minorVersion := 0, majorVersion := 0, constantPool := #[], accessFlags := 0, thisClass := 0, superClass := 0, interfaces := #[], fields := #[], methods := #[], attributes := #[] }
def lf5 : Method := ((layoutMethods lD5).bind (·[1]?)).getD default
def lF5 : Array Field × Array FieldType × Array FieldType := (layoutFields lD5 0).getD (#[], #[], #[])
theorem lC5 : LamC lsh5 "CreditBroker" lD5 lf5 lF5 lcode_none (.boolean) 17 14 16 13 := by
  refine ⟨?_, ?_, ?_, by decide +kernel, by decide +kernel, by decide +kernel, by decide +kernel, by decide +kernel, by decide +kernel, by decide +kernel⟩
  · have h : (lsh5.file "CreditBroker").isSome = true := by decide +kernel
    obtain ⟨x, hx⟩ := Option.isSome_iff_exists.mp h
    simp [lD5, hx]
  · intro ms hms
    have h : ((layoutMethods lD5).bind (·[1]?)).isSome = true := by decide +kernel
    obtain ⟨x, hx⟩ := Option.isSome_iff_exists.mp h
    have hf : lf5 = x := by simp [lf5, hx]
    rw [hms] at hx
    rw [hf]
    exact hx
  · have h : (layoutFields lD5 0).isSome = true := by decide +kernel
    obtain ⟨x, hx⟩ := Option.isSome_iff_exists.mp h
    simp [lF5, hx]
def lsh6 : Lambda.Shape := ({ iface := "CreditBroker$Which", name := "is", sam := ({ parameters := [(Jvm.ClassFile.FieldType.object "CreditBroker$Letter")], returnType := (Option.some Jvm.ClassFile.FieldType.boolean) } : Jvm.ClassFile.MethodDescriptor), captured := [(Jvm.ClassFile.FieldType.object "CreditBroker$Consumer")], kind := 6, implClass := "CreditBroker$World", implName := "lambda$answers$0", implDesc := ({ parameters := [(Jvm.ClassFile.FieldType.object "CreditBroker$Consumer"), (Jvm.ClassFile.FieldType.object "CreditBroker$Letter")], returnType := (Option.some Jvm.ClassFile.FieldType.boolean) } : Jvm.ClassFile.MethodDescriptor), implItf := false, inst := ({ parameters := [(Jvm.ClassFile.FieldType.object "CreditBroker$Letter")], returnType := (Option.some Jvm.ClassFile.FieldType.boolean) } : Jvm.ClassFile.MethodDescriptor) } : Jvm.Lambda.Shape)
def lxm6 : MethodName := ({ cls := "CreditBroker$World", name := "answers", desc := "(Z)Z" } : Jvm.MethodName)
def lD6 : ClassFile := (lsh6.file "CreditBroker$World").getD { minorVersion := 0, majorVersion := 0, constantPool := #[], accessFlags := 0, thisClass := 0, superClass := 0, interfaces := #[], fields := #[], methods := #[], attributes := #[] }
def lf6 : Method := ((layoutMethods lD6).bind (·[1]?)).getD default
def lF6 : Array Field × Array FieldType × Array FieldType := (layoutFields lD6 0).getD (#[], #[], #[])
theorem lC6 : LamC lsh6 "CreditBroker$World" lD6 lf6 lF6 lcode_cap (.boolean) 23 19 22 18 := by
  refine ⟨?_, ?_, ?_, by decide +kernel, by decide +kernel, by decide +kernel, by decide +kernel, by decide +kernel, by decide +kernel, by decide +kernel⟩
  · have h : (lsh6.file "CreditBroker$World").isSome = true := by decide +kernel
    obtain ⟨x, hx⟩ := Option.isSome_iff_exists.mp h
    simp [lD6, hx]
  · intro ms hms
    have h : ((layoutMethods lD6).bind (·[1]?)).isSome = true := by decide +kernel
    obtain ⟨x, hx⟩ := Option.isSome_iff_exists.mp h
    have hf : lf6 = x := by simp [lf6, hx]
    rw [hms] at hx
    rw [hf]
    exact hx
  · have h : (layoutFields lD6 0).isSome = true := by decide +kernel
    obtain ⟨x, hx⟩ := Option.isSome_iff_exists.mp h
    simp [lF6, hx]
theorem lE6 : lD6.constantPool[15]? = some (.fieldref 2 14) ∧ lD6.constantPool.nameAndType? 14 = some ("arg$1", "LCreditBroker$Consumer;") ∧ lF6.1.findIdx? (·.name == "arg$1") = some 0 ∧ (lF6.1[0]?).map (fun f => (f.isStatic, f.slot)) = some (false, 0) := by decide +kernel
theorem lT6 : lF6.2.1 = #[.object "CreditBroker$Consumer"] := by decide +kernel
def lsh7 : Lambda.Shape := ({ iface := "CreditBroker$Tally", name := "of", sam := ({ parameters := [(Jvm.ClassFile.FieldType.object "CreditBroker$Queue")], returnType := (Option.some Jvm.ClassFile.FieldType.int) } : Jvm.ClassFile.MethodDescriptor), captured := [], kind := 6, implClass := "CreditBroker", implName := "lambda$status$5", implDesc := ({ parameters := [(Jvm.ClassFile.FieldType.object "CreditBroker$Queue")], returnType := (Option.some Jvm.ClassFile.FieldType.int) } : Jvm.ClassFile.MethodDescriptor), implItf := false, inst := ({ parameters := [(Jvm.ClassFile.FieldType.object "CreditBroker$Queue")], returnType := (Option.some Jvm.ClassFile.FieldType.int) } : Jvm.ClassFile.MethodDescriptor) } : Jvm.Lambda.Shape)
def lxm7 : MethodName := ({ cls := "CreditBroker", name := "status", desc := "(I)I" } : Jvm.MethodName)
def lD7 : ClassFile := (lsh7.file "CreditBroker").getD { minorVersion := 0, majorVersion := 0, constantPool := #[], accessFlags := 0, thisClass := 0, superClass := 0, interfaces := #[], fields := #[], methods := #[], attributes := #[] }
def lf7 : Method := ((layoutMethods lD7).bind (·[1]?)).getD default
def lF7 : Array Field × Array FieldType × Array FieldType := (layoutFields lD7 0).getD (#[], #[], #[])
theorem lC7 : LamC lsh7 "CreditBroker" lD7 lf7 lF7 lcode_none (.int) 17 14 16 13 := by
  refine ⟨?_, ?_, ?_, by decide +kernel, by decide +kernel, by decide +kernel, by decide +kernel, by decide +kernel, by decide +kernel, by decide +kernel⟩
  · have h : (lsh7.file "CreditBroker").isSome = true := by decide +kernel
    obtain ⟨x, hx⟩ := Option.isSome_iff_exists.mp h
    simp [lD7, hx]
  · intro ms hms
    have h : ((layoutMethods lD7).bind (·[1]?)).isSome = true := by decide +kernel
    obtain ⟨x, hx⟩ := Option.isSome_iff_exists.mp h
    have hf : lf7 = x := by simp [lf7, hx]
    rw [hms] at hx
    rw [hf]
    exact hx
  · have h : (layoutFields lD7 0).isSome = true := by decide +kernel
    obtain ⟨x, hx⟩ := Option.isSome_iff_exists.mp h
    simp [lF7, hx]
def lsh8 : Lambda.Shape := ({ iface := "CreditBroker$Tally", name := "of", sam := ({ parameters := [(Jvm.ClassFile.FieldType.object "CreditBroker$Queue")], returnType := (Option.some Jvm.ClassFile.FieldType.int) } : Jvm.ClassFile.MethodDescriptor), captured := [(Jvm.ClassFile.FieldType.object "CreditBroker")], kind := 5, implClass := "CreditBroker", implName := "lambda$status$6", implDesc := ({ parameters := [(Jvm.ClassFile.FieldType.object "CreditBroker$Queue")], returnType := (Option.some Jvm.ClassFile.FieldType.int) } : Jvm.ClassFile.MethodDescriptor), implItf := false, inst := ({ parameters := [(Jvm.ClassFile.FieldType.object "CreditBroker$Queue")], returnType := (Option.some Jvm.ClassFile.FieldType.int) } : Jvm.ClassFile.MethodDescriptor) } : Jvm.Lambda.Shape)
def lxm8 : MethodName := ({ cls := "CreditBroker", name := "status", desc := "(I)I" } : Jvm.MethodName)
def lD8 : ClassFile := (lsh8.file "CreditBroker").getD { minorVersion := 0, majorVersion := 0, constantPool := #[], accessFlags := 0, thisClass := 0, superClass := 0, interfaces := #[], fields := #[], methods := #[], attributes := #[] }
def lf8 : Method := ((layoutMethods lD8).bind (·[1]?)).getD default
def lF8 : Array Field × Array FieldType × Array FieldType := (layoutFields lD8 0).getD (#[], #[], #[])
theorem lC8 : LamC lsh8 "CreditBroker" lD8 lf8 lF8 lcode_virt (.int) 22 19 21 18 := by
  refine ⟨?_, ?_, ?_, by decide +kernel, by decide +kernel, by decide +kernel, by decide +kernel, by decide +kernel, by decide +kernel, by decide +kernel⟩
  · have h : (lsh8.file "CreditBroker").isSome = true := by decide +kernel
    obtain ⟨x, hx⟩ := Option.isSome_iff_exists.mp h
    simp [lD8, hx]
  · intro ms hms
    have h : ((layoutMethods lD8).bind (·[1]?)).isSome = true := by decide +kernel
    obtain ⟨x, hx⟩ := Option.isSome_iff_exists.mp h
    have hf : lf8 = x := by simp [lf8, hx]
    rw [hms] at hx
    rw [hf]
    exact hx
  · have h : (layoutFields lD8 0).isSome = true := by decide +kernel
    obtain ⟨x, hx⟩ := Option.isSome_iff_exists.mp h
    simp [lF8, hx]
theorem lE8 : lD8.constantPool[15]? = some (.fieldref 2 14) ∧ lD8.constantPool.nameAndType? 14 = some ("arg$1", "LCreditBroker;") ∧ lF8.1.findIdx? (·.name == "arg$1") = some 0 ∧ (lF8.1[0]?).map (fun f => (f.isStatic, f.slot)) = some (false, 0) := by decide +kernel
theorem lT8 : lF8.2.1 = #[.object "CreditBroker"] := by decide +kernel
def lxW : MethodName := ⟨"CreditBroker$Which", "is", "(LCreditBroker$Letter;)Z"⟩
def lxT : MethodName := ⟨"CreditBroker$Tally", "of", "(LCreditBroker$Queue;)I"⟩
theorem lx1 : lxW = ⟨lsh1.iface, lsh1.name, lsh1.sam.toString⟩ := by decide +kernel
theorem lx2 : lxW = ⟨lsh2.iface, lsh2.name, lsh2.sam.toString⟩ := by decide +kernel
theorem lx3 : lxW = ⟨lsh3.iface, lsh3.name, lsh3.sam.toString⟩ := by decide +kernel
theorem lx4 : lxW = ⟨lsh4.iface, lsh4.name, lsh4.sam.toString⟩ := by decide +kernel
theorem lx5 : lxW = ⟨lsh5.iface, lsh5.name, lsh5.sam.toString⟩ := by decide +kernel
theorem lx6 : lxW = ⟨lsh6.iface, lsh6.name, lsh6.sam.toString⟩ := by decide +kernel
theorem lx7 : lxT = ⟨lsh7.iface, lsh7.name, lsh7.sam.toString⟩ := by decide +kernel
theorem lx8 : lxT = ⟨lsh8.iface, lsh8.name, lsh8.sam.toString⟩ := by decide +kernel
def gFace (x : MethodName) (U : State) : Prop := (Cond.declares x).before #[] U = true ∧ (Cond.interfaceMethod x.cls x.cls x.name x.desc).before #[] U = true
theorem gFace.moved {x : MethodName} (hx : x.cls ≠ "java/lang/invoke/MethodHandle" ∧ x.cls ≠ "java/lang/invoke/VarHandle") {u U : State} (hvm : u.vm.Alike U.vm) (h : gFace x u) : gFace x U := by
  obtain ⟨h1, h2⟩ := h
  obtain ⟨r, meth, hn, -⟩ := Cond.declares_spec h1
  have tr : ∀ {c : Cond}, c.onTables = true → c.before #[] (u.setVm U.vm) = true → c.before #[] U = true := by
    intro c hc h
    have e := Cond.onTables_vm (A := #[]) (A' := #[]) (U := u) (U' := U) U.vm c hc
    have hU : U.setVm U.vm = U := rfl
    rw [hU] at e
    rw [← e]
    exact h
  exact ⟨tr rfl (by rw [Cond.declares_setVm hvm]; exact h1), tr rfl (by rw [Cond.interfaceMethod_setVm hvm (r := r) hn hx]; exact h2)⟩
/-- the one object of a site that captures nothing -/
def gOne (q : Nat) (c : ClassId) (A : Nat → Prop) (H : Heap) : Prop := ∃ cell : Cell, H[q]? = some cell ∧ cell.cls = c ∧ cell.vm = .none ∧ ¬ A q
theorem gOne.kept {q : Nat} {c : ClassId} {A : Nat → Prop} {H H1 : Heap} (h : gOne q c A H) (hq : ∀ a : Nat, a < H.size → ¬ A a → H1[a]? = H[a]?) : gOne q c A H1 := by
  obtain ⟨cell, h1, h2, h3, h4⟩ := h
  exact ⟨cell, by rw [hq q (Array.getElem?_eq_some_iff.mp h1).1 h4]; exact h1, h2, h3, h4⟩
/-- the sites are linked; kinds 21 .. 28 are the made classes; constants 6 and 7 the objects of the sites 5 and 7 -/
def gL (G : va_G × (Nat → ClassId) × (Nat → Nat) × (Nat → Prop)) (U : State) (H : Heap) : Prop := gFace lxW U ∧ gFace lxT U ∧ lamT lxm1 9 273 lsh1 (G.2.1 21) none U ∧ lamT lxm2 100 342 lsh2 (G.2.1 22) none U ∧ lamT lxm3 42 381 lsh3 (G.2.1 23) none U ∧ lamT lxm4 150 395 lsh4 (G.2.1 24) none U ∧ lamT lxm5 22 429 lsh5 (G.2.1 25) (some (G.2.2.1 6)) U ∧ lamT lxm6 29 269 lsh6 (G.2.1 26) none U ∧ lamT lxm7 143 485 lsh7 (G.2.1 27) (some (G.2.2.1 7)) U ∧ lamT lxm8 156 492 lsh8 (G.2.1 28) none U ∧ gOne (G.2.2.1 6) (G.2.1 25) G.2.2.2 H ∧ gOne (G.2.2.1 7) (G.2.1 27) G.2.2.2 H
theorem gL.to {G : va_G × (Nat → ClassId) × (Nat → Nat) × (Nat → Prop)} {u U : State} {H H1 : Heap} (hW : u.WarmedH U.vm) (hk : ∀ a : Nat, a < H.size → ¬ G.2.2.2 a → H1[a]? = H[a]?) (h : gL G u H) : gL G U H1 := by
  obtain ⟨f1, f2, t1, t2, t3, t4, t5, t6, t7, t8, o1, o2⟩ := h
  exact ⟨f1.moved (by decide) hW.alike, f2.moved (by decide) hW.alike, t1.warm hW, t2.warm hW, t3.warm hW, t4.warm hW, t5.warm hW, t6.warm hW, t7.warm hW, t8.warm hW, o1.kept hk, o2.kept hk⟩
