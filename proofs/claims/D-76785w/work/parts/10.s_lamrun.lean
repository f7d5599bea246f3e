/-! LAMBDAS: a call of the made class's object -/
set_option maxRecDepth 100000
set_option maxHeartbeats 4000000
theorem static_ex {y : MethodName} {args : Array Value} {s : State} (h : (Cond.static y).before args s = true) : ∃ t methY, s.methodNamed? y = some t ∧ s.vm.method? t = some methY ∧ methY.isStatic = true := by
  simp only [Cond.before, Cond.holds, Cond.value] at h
  cases h1 : s.methodNamed? y with
  | none => simp [h1] at h
  | some t =>
    cases h2 : s.vm.method? t with
    | none => simp [h1, h2] at h
    | some mm => exact ⟨t, mm, rfl, h2, by simpa [h1, h2] using h⟩
theorem face_at {x : MethodName} {args a' : Array Value} {u U : State} (hvm : u.vm.Alike U.vm) {r : MethodId} (hn : u.methodNamed? x = some r) (hx : x.cls ≠ "java/lang/invoke/MethodHandle" ∧ x.cls ≠ "java/lang/invoke/VarHandle")
    (h : (Cond.interfaceMethod x.cls x.cls x.name x.desc).before args u = true) : (Cond.interfaceMethod x.cls x.cls x.name x.desc).before args U = true := by
  have tr : ∀ {c : Cond}, c.onTables = true → c.before args (u.setVm U.vm) = true → c.before args U = true := by
    intro c hc h
    have e := Cond.onTables_vm (A := args) (A' := args) (U := u) (U' := U) U.vm c hc
    have hU : U.setVm U.vm = U := rfl
    rw [hU] at e
    rw [← e]
    exact h
  exact tr rfl (by rw [Cond.interfaceMethod_setVm hvm (r := r) hn hx]; exact h)
theorem lam_entry (m : MethodId) (f : Addr) {x : Value} (h : x.isRef = true) : entryFrame m #[.ref f, x] 2 = { method := m, pc := 0, locals := #[.val (.ref f), .val x], stack := [], locked := none } := by
  cases x <;> first | rfl | simp [Value.isRef] at h
theorem lam_weaken {tb : Tables} {e : Env} {mid below : List Frame} {a b : State} (h : Steps tb e (mid ++ below) a b) : Steps tb e below a b := Steps.weaken h
section LAMR
variable {p : Program} {l : Launch} {e : Env} {R : Room} {s : State} {m : MethodId} {args : Array Value} {below : List Frame} {meth : Method} {c : Code} {H : Heap} {locs : List Loc} {cells slots : Nat}
theorem lam_run1 {σ : Lambda.Shape} {caller : String} {D : ClassFile} {fw : Method} {F : Array Field × Array FieldType × Array FieldType} {code : ByteArray} {ret : FieldType} {mi mci mnt mcn fi fci fnt pcs idx index count maxL nL mc ms b : Nat} {nm0 ds0 own : String} {xm x y : MethodName} {cK : ClassId} {one : Option Nat} {bytes cc : ByteArray} {rt : Option FieldType} {ws : List Cond} {rm : Room}
    {Pc : Array Value → State → Prop} {Qc : Array Value → State → Outcome → State → Prop} {free : Addr → Prop} {cv xv : Value} {cell : Cell} {r : Int32} {g : JFrame} {rest : List Value}
    (hx : p.tables.exec = Jvm.exec) (hb : c.code = cc) (hml : c.maxLocals = nL) (hown : s.vm.findClass own = some m.cls)
    (hL : LamC σ caller D fw F code ret mi mci mnt mcn) (d0 : decode code 0 = .ok (.aload_n 0, 1)) (d1 : decode code 1 = .ok (.getfield fi, 3)) (d4 : decode code 4 = .ok (.aload_n 1, 1)) (d5 : decode code 5 = .ok (.invokestatic mi, 3)) (d8 : decode code 8 = .ok (.ireturn, 1))
    (eF : D.constantPool[fi]? = some (.fieldref fci fnt) ∧ D.constantPool.nameAndType? fnt = some (nm0, ds0) ∧ F.1.findIdx? (·.name == nm0) = some 0 ∧ (F.1[0]?).map (fun f => (f.isStatic, f.slot)) = some (false, 0))
    (hT : lamT xm pcs idx σ cK one s) (hxm : xm.cls = caller) (hO : (Cond.instantiable "java/lang/Object" 0).before args s = true) (hy : y = ⟨σ.implClass, σ.implName, σ.implDesc.toString⟩) (hxx : x = ⟨σ.iface, σ.name, σ.sam.toString⟩)
    (hlink : (Cond.methodLink own index x).before args s = true) (hdecl : (Cond.declares x).before args s = true) (hface : (Cond.interfaceMethod x.cls x.cls x.name x.desc).before args s = true) (hxMH : x.cls ≠ "java/lang/invoke/MethodHandle" ∧ x.cls ≠ "java/lang/invoke/VarHandle")
    (hst : (Cond.static y).before args s = true) (hcodeY : (Cond.code y bytes maxL rt).before args s = true) (hini : (Cond.initialized y.cls).before args s = true)
    (hws : ∀ w ∈ ws, ∀ (a' : Array Value) (U : State), s.WarmedH U.vm → w.before a' U = true) (hcw : Cond.code y bytes maxL rt ∈ ws) (hnx : (parseMethodDescriptor x.desc).map (fun d => d.parameters.length) = some 1) (hny : (parseMethodDescriptor y.desc).map (fun d => d.parameters.length) = some 2)
    (hM : Met l y ws rm Pc Qc mc ms free) (hbl : FrameBlind Pc) (hrc : rm.cells = mc) (hrs : rm.slots = ms)
    (hcell : H[b]? = some cell) (hcls : cell.cls = cK) (hvm : cell.vm = .none) (hslot : cell.slots[0]? = some cv) (hxr : xv.isRef = true)
    (hPc : ∀ U : State, U.heap = H → s.WarmedH U.vm → Pc #[cv, xv] U) (hQr : ∀ a st o t, Qc a st o t → o = .returned (some (.int r))) (hn : narrow ret (.int r) = .int r) (hti : ret = .int ∨ ret = .boolean)
    (hg : g.method = m) (hsize : g.locals.size = nL) (hstack : g.stack = xv :: .ref b :: rest) (hW : 2 * g.monitorRoom + (rest.map fun v => v.category).sum ≤ 8) (hdg : decode cc g.pc = .ok (.invokeinterface index count, 5))
    (hf : cells + mc ≤ R.cells ∧ slots + ms ≤ R.slots) (hfr : rm.frames + 2 ≤ R.frames) (hlo : 8 + (2 + 11) + ((maxL + 11) + rm.locals) ≤ R.locals) :
    va_Run5 p l e R s m args below meth c H locs cells slots mc ms g rest (Qc #[cv, xv]) free := by
  intro T hTH X
  obtain ⟨tY, methY, hyn, hmY, hstY⟩ := static_ex hst
  obtain ⟨r0, k, tk, methk, ck, hk, -, -, hmk, hck, hbytes, hckL, hlk, hfl, hretk, -, -, -, -, htk, -, hpoly, -, hxn, hsel, -, ⟨i, hi, hasg, hway⟩, -⟩ := lam_facts e hL hT hxm hO hy hxx hyn hface
  obtain ⟨r0b, rI, hnI, hrm, hstR, hsigR⟩ := Cond.declares_spec hdecl
  obtain rfl : r0b = r0 := Option.some.inj (hnI.symm.trans hxn)
  obtain ⟨cL, kL, r1, hcL, hkL, hiL, -, hn1⟩ := Cond.interfaceMethod_spec hface
  have hr0cls : r0b.cls = cL := Option.some.inj ((findClass_of_methodNamed hnI).symm.trans hcL)
  cases hcL.symm.trans hi
  obtain ⟨hnameR, hdescR⟩ := name_of_methodNamed hnI hrm
  have hselP : selectMethod e.platform s.vm cell.cls r0b = .method ⟨cK, 1⟩ := by rw [Launch.admits_selectMethod X.admits, hcls]; exact hsel
  have hlenx : [xv].length = rI.sig.parameters.length := by
    rw [hsigR] at hnx
    simpa using (Option.some.inj hnx).symm
  obtain ⟨vm₁, X₁, hstep₁⟩ := X.invokeinterface hx hown hlink hnI hrm hstR (by rw [hr0cls]; exact hkL) hiL hxMH (a := b) (cell := cell) (kcell := k) (by rw [hTH]; exact hcell)
    (fun z h => by rw [hvm] at h; cases h) (by rw [hcls]; exact hk) (by rw [hr0cls, hcls]; exact hasg) hselP hmk (by rw [hnameR, hdescR, hcls]; exact hway) (by rw [hfl]; decide) (by simp [Method.isAbstract, hfl, hasFlag, Acc.abstract])
    (g := g) hg (argsL := [xv]) (rest := rest) hlenx hstack (by rw [hb]; exact hdg)
  have hW₁ : s.WarmedH (T.setVm vm₁).vm := X₁.warmed
  obtain ⟨r0₁, k₁, tk₁, methk₁, ck₁, hk₁, -, -, hmk₁, hck₁, hbytes₁, hckL₁, hlk₁, hfl₁, hretk₁, hpk₁, ⟨bb, hmem₁⟩, hcr₁, hmr₁, htk₁, htkI₁, hpoly₁, hyn₁, -, -, hfield₁, -, ⟨fileK, nK, hfK, hpK⟩⟩ :=
    lam_facts e hL (hT.warm (U := T.setVm vm₁) hW₁) hxm (word_at hW₁ (Or.inl rfl) hO) hy hxx (X₁.named hyn) (face_at (args := args) (a' := args) hW₁.alike hnI hxMH hface)
  have hmY₁ : (T.setVm vm₁).vm.method? tY = some methY := by rw [hW₁.alike.method?]; exact hmY
  have hini₁ : tk₁.init = .initialized := Cond.initialized_spec (findClass_of_methodNamed hyn₁) htk₁ (word_at (a' := args) hW₁ (Or.inl rfl) hini)
  obtain ⟨methY2, cY, hmY2, -, -, -, -, -, -, hpY⟩ := Cond.code_spec hyn hcodeY
  cases hmY.symm.trans hmY2
  have hleny : methY.sig.parameters.length = 2 := by
    rw [hpY] at hny
    simpa using hny
  obtain ⟨Y₀, hin⟩ := X₁.into (g := { g with stack := rest }) hg (hsize.trans hml.symm) (ig := .invokeinterface index count) (len := 5) (by rw [hb]; exact hdg) #[.ref b, xv] (R' := { frames := rm.frames + 1, locals := (maxL + 11) + rm.locals, cells := mc, slots := ms }) hmk₁ hck₁ hlk₁ hpk₁
    (by show rm.frames + 1 + 1 ≤ R.frames; omega) (by rw [hckL₁]; show 2 * ({ g with stack := rest } : JFrame).monitorRoom + (rest.map fun v => v.category).sum + (2 + 11) + ((maxL + 11) + rm.locals) ≤ R.locals; have : ({ g with stack := rest } : JFrame).monitorRoom = g.monitorRoom := rfl; omega) hf.1 hf.2
  generalize hU : ((T.setVm vm₁).setTop { g with stack := rest }).pushFrame (.java (entryFrame ⟨cK, 1⟩ #[.ref b, xv] ck₁.maxLocals)) = U at Y₀ hin
  have hvmU : U.vm = (T.setVm vm₁).vm := by rw [← hU]; rfl
  have hheapU : U.heap = H := by rw [← hU]; exact hTH
  have hWU : s.WarmedH U.vm := by rw [hvmU]; exact hW₁
  have hK : Back l { frames := rm.frames + 1, locals := (maxL + 11) + rm.locals, cells := mc, slots := ms } p e (.java { g with stack := rest } :: below) ((T.setVm vm₁).calling { g with stack := rest } ⟨cK, 1⟩ #[.ref b, xv]) #[.ref b, xv] y 3 0 (PreOf { frames := rm.frames + 1, locals := (maxL + 11) + rm.locals, cells := mc, slots := ms } mc ms Pc) (PostOf Qc mc ms free) :=
    back_of (bytes := bytes) (maxL := maxL) (ret := rt) hM hbl hrc hrs (Nat.le_refl _) (by show 0 + (maxL + 11) + rm.locals ≤ (maxL + 11) + rm.locals; omega) (fun w hw a' U' hW' => hws w hw a' U' (State.WarmedH.trans hW₁ hW')) hcw (fun a' U' hW' => word_at (State.WarmedH.trans hW₁ hW') (Or.inl (by first | rfl | simp [Cond.onTables, Cond.keeps, Cond.steady])) hini)
  have hynU : U.methodNamed? y = some tY := by
    have q : (T.setVm vm₁).methodNamed? y = some tY := hyn₁
    have q2 : ((T.setVm vm₁).setVm U.vm).methodNamed? y = some tY := by rw [hvmU]; exact q
    exact q2
  obtain ⟨v, ⟨U₁, L₁, c₁, n₁⟩, Y₁, ⟨g9, mk9, t9, L9, q1, q2, q3, q4, q5, q6, q7⟩, hsteps⟩ := hK ⟨cK, 1⟩ methk₁ ck₁ ⟨U, [], 0, 0⟩ { method := ⟨cK, 1⟩, pc := 5, locals := #[.val (.ref b), .val xv], stack := [], locked := none } (.invokestatic mi) tY #[cv, xv] Y₀ rfl (by rw [hckL₁]; rfl) (by rw [hbytes₁]; exact d5) (by show 2 * 0 + 0 ≤ 0; decide) hynU
    ⟨by show 0 + mc ≤ mc; omega, by show 0 + ms ≤ ms; omega, hPc U hheapU hWU⟩
  dsimp only [Pt.U, Pt.locs, Pt.cells, Pt.slots] at Y₁ q1 q2 q3 q4 q6 q7 hsteps
  obtain rfl : v = some (.int r) := Outcome.returned.inj (hQr _ _ _ _ q3)
  obtain ⟨fs, hleave, -, hended, hWe, hsame⟩ := Y₁.leave (v := some (.int r)) (fun h => by rw [hretk₁] at h; cases h) hlk₁
  obtain ⟨T', X', hW', -, ht⟩ := X₁.outOf (g := { g with stack := rest }) hg (by rw [hb]; exact hdg) hended hWe hsame
  refine ⟨some (.int r), U.calling g9 mk9 #[cv, xv], t9, T', L9, hheapU, ?_, q5, (congrArg State.heap ht).symm.trans q1, (congrArg State.vm ht).symm.trans q2, q3, fun target h => hstep₁ _ fun acts => ?_⟩
  · rw [q4, q6, q7] at X'
    simpa using X'
  · rw [hin acts]
    refine Steps.trans ?_ h
    show Steps p.tables e below _ (T'.setTop { g with pc := g.pc + 5, stack := (some (Value.int r)).toList ++ rest })
    rw [← ht]
    refine lam_weaken (mid := [.java { g with stack := rest }]) ?_
    rw [hckL₁, lam_entry _ _ hxr]
    have hs : U.topJava?.isSome := Y₀.here.top
    obtain ⟨g0, hg0, hp0⟩ := Option.map_eq_some_iff.mp eF.2.2.2
    simp only [Prod.mk.injEq] at hp0
    jvm_step Y₀.here [hx, hbytes₁, d0, Value.isRef]
    jvm_step Y₀.here [hx, hbytes₁, d1, getfield.wp_ready (e := e) (s := U) (c := cK) (field := g0) (a := b) (rest := []) (cell := cell) (v := cv)
      (f := { method := ⟨cK, 1⟩, pc := 1, locals := #[.val (.ref b), .val xv], stack := [.ref b], locked := none }) hs (by rw [hvmU]; exact hfield₁ _ _ _ _ _ _ eF.1 eF.2.1 eF.2.2.1 hg0) hp0.1 rfl (by rw [hheapU]; exact hcell) (by rw [hvm]; intro h; cases h) (by rw [hp0.2]; exact hslot)]
    jvm_step Y₀.here [hx, hbytes₁, d4, hxr]
    jvm_step Y₀.here [hx, hbytes₁, d5, invokestatic.wp_ready (e := e) (s := U) (m := tY) (k := tk₁) (meth := methY) (args := [cv, xv]) (rest := [])
      (f := { method := ⟨cK, 1⟩, pc := 5, locals := #[.val (.ref b), .val xv], stack := [xv, cv], locked := none }) hs ⟨mci, y.name, y.desc, bb, tY.cls, tk₁, by rw [hvmU]; exact hmem₁, by rw [hvmU]; exact hcr₁, by rw [hvmU]; exact htk₁, by simp [hpoly₁]⟩ (by rw [hvmU]; exact hmr₁) (by rw [hvmU]; exact htk₁) (by rw [hvmU]; exact hmY₁) (hpoly₁ _) hstY hini₁ hleny.symm rfl]
    intro acts'
    rw [doInvoke_state]
    refine Steps.trans hsteps ?_
    have hm' : U₁.vm.method? ⟨cK, 1⟩ = some methk₁ := Y₁.method'
    rcases hti with rfl | rfl <;>
    · jvm_step Y₁.here [Y₁.here.top, hx, hbytes₁, d8, hm', hretk₁, hn]
      first | (intro acts''; rw [hleave _ acts'' rfl rfl rfl]) | rw [hleave _ _ rfl rfl rfl]
      exact Steps.refl _
theorem lam_run0 {σ : Lambda.Shape} {caller : String} {D : ClassFile} {fw : Method} {F : Array Field × Array FieldType × Array FieldType} {code : ByteArray} {ret : FieldType} {mi mci mnt mcn pcs idx index count maxL nL mc ms b : Nat} {own : String} {xm x y : MethodName} {cK : ClassId} {one : Option Nat} {bytes cc : ByteArray} {rt : Option FieldType} {ws : List Cond} {rm : Room}
    {Pc : Array Value → State → Prop} {Qc : Array Value → State → Outcome → State → Prop} {free : Addr → Prop} {xv : Value} {cell : Cell} {r : Int32} {g : JFrame} {rest : List Value}
    (hx : p.tables.exec = Jvm.exec) (hb : c.code = cc) (hml : c.maxLocals = nL) (hown : s.vm.findClass own = some m.cls)
    (hL : LamC σ caller D fw F code ret mi mci mnt mcn) (d0 : decode code 0 = .ok (.aload_n 1, 1)) (d1 : decode code 1 = .ok (.invokestatic mi, 3)) (d4 : decode code 4 = .ok (.ireturn, 1))
    (hT : lamT xm pcs idx σ cK one s) (hxm : xm.cls = caller) (hO : (Cond.instantiable "java/lang/Object" 0).before args s = true) (hy : y = ⟨σ.implClass, σ.implName, σ.implDesc.toString⟩) (hxx : x = ⟨σ.iface, σ.name, σ.sam.toString⟩)
    (hlink : (Cond.methodLink own index x).before args s = true) (hdecl : (Cond.declares x).before args s = true) (hface : (Cond.interfaceMethod x.cls x.cls x.name x.desc).before args s = true) (hxMH : x.cls ≠ "java/lang/invoke/MethodHandle" ∧ x.cls ≠ "java/lang/invoke/VarHandle")
    (hst : (Cond.static y).before args s = true) (hcodeY : (Cond.code y bytes maxL rt).before args s = true) (hini : (Cond.initialized y.cls).before args s = true)
    (hws : ∀ w ∈ ws, ∀ (a' : Array Value) (U : State), s.WarmedH U.vm → w.before a' U = true) (hcw : Cond.code y bytes maxL rt ∈ ws) (hnx : (parseMethodDescriptor x.desc).map (fun d => d.parameters.length) = some 1) (hny : (parseMethodDescriptor y.desc).map (fun d => d.parameters.length) = some 1)
    (hM : Met l y ws rm Pc Qc mc ms free) (hbl : FrameBlind Pc) (hrc : rm.cells = mc) (hrs : rm.slots = ms)
    (hcell : H[b]? = some cell) (hcls : cell.cls = cK) (hvm : cell.vm = .none) (hxr : xv.isRef = true)
    (hPc : ∀ U : State, U.heap = H → s.WarmedH U.vm → Pc #[xv] U) (hQr : ∀ a st o t, Qc a st o t → o = .returned (some (.int r))) (hn : narrow ret (.int r) = .int r) (hti : ret = .int ∨ ret = .boolean)
    (hg : g.method = m) (hsize : g.locals.size = nL) (hstack : g.stack = xv :: .ref b :: rest) (hW : 2 * g.monitorRoom + (rest.map fun v => v.category).sum ≤ 8) (hdg : decode cc g.pc = .ok (.invokeinterface index count, 5))
    (hf : cells + mc ≤ R.cells ∧ slots + ms ≤ R.slots) (hfr : rm.frames + 2 ≤ R.frames) (hlo : 8 + (2 + 11) + ((maxL + 11) + rm.locals) ≤ R.locals) :
    va_Run5 p l e R s m args below meth c H locs cells slots mc ms g rest (Qc #[xv]) free := by
  intro T hTH X
  obtain ⟨tY, methY, hyn, hmY, hstY⟩ := static_ex hst
  obtain ⟨r0, k, tk, methk, ck, hk, -, -, hmk, hck, hbytes, hckL, hlk, hfl, hretk, -, -, -, -, htk, -, hpoly, -, hxn, hsel, -, ⟨i, hi, hasg, hway⟩, -⟩ := lam_facts e hL hT hxm hO hy hxx hyn hface
  obtain ⟨r0b, rI, hnI, hrm, hstR, hsigR⟩ := Cond.declares_spec hdecl
  obtain rfl : r0b = r0 := Option.some.inj (hnI.symm.trans hxn)
  obtain ⟨cL, kL, r1, hcL, hkL, hiL, -, hn1⟩ := Cond.interfaceMethod_spec hface
  have hr0cls : r0b.cls = cL := Option.some.inj ((findClass_of_methodNamed hnI).symm.trans hcL)
  cases hcL.symm.trans hi
  obtain ⟨hnameR, hdescR⟩ := name_of_methodNamed hnI hrm
  have hselP : selectMethod e.platform s.vm cell.cls r0b = .method ⟨cK, 1⟩ := by rw [Launch.admits_selectMethod X.admits, hcls]; exact hsel
  have hlenx : [xv].length = rI.sig.parameters.length := by
    rw [hsigR] at hnx
    simpa using (Option.some.inj hnx).symm
  obtain ⟨vm₁, X₁, hstep₁⟩ := X.invokeinterface hx hown hlink hnI hrm hstR (by rw [hr0cls]; exact hkL) hiL hxMH (a := b) (cell := cell) (kcell := k) (by rw [hTH]; exact hcell)
    (fun z h => by rw [hvm] at h; cases h) (by rw [hcls]; exact hk) (by rw [hr0cls, hcls]; exact hasg) hselP hmk (by rw [hnameR, hdescR, hcls]; exact hway) (by rw [hfl]; decide) (by simp [Method.isAbstract, hfl, hasFlag, Acc.abstract])
    (g := g) hg (argsL := [xv]) (rest := rest) hlenx hstack (by rw [hb]; exact hdg)
  have hW₁ : s.WarmedH (T.setVm vm₁).vm := X₁.warmed
  obtain ⟨r0₁, k₁, tk₁, methk₁, ck₁, hk₁, -, -, hmk₁, hck₁, hbytes₁, hckL₁, hlk₁, hfl₁, hretk₁, hpk₁, ⟨bb, hmem₁⟩, hcr₁, hmr₁, htk₁, htkI₁, hpoly₁, hyn₁, -, -, hfield₁, -, ⟨fileK, nK, hfK, hpK⟩⟩ :=
    lam_facts e hL (hT.warm (U := T.setVm vm₁) hW₁) hxm (word_at hW₁ (Or.inl rfl) hO) hy hxx (X₁.named hyn) (face_at (args := args) (a' := args) hW₁.alike hnI hxMH hface)
  have hmY₁ : (T.setVm vm₁).vm.method? tY = some methY := by rw [hW₁.alike.method?]; exact hmY
  have hini₁ : tk₁.init = .initialized := Cond.initialized_spec (findClass_of_methodNamed hyn₁) htk₁ (word_at (a' := args) hW₁ (Or.inl rfl) hini)
  obtain ⟨methY2, cY, hmY2, -, -, -, -, -, -, hpY⟩ := Cond.code_spec hyn hcodeY
  cases hmY.symm.trans hmY2
  have hleny : methY.sig.parameters.length = 1 := by
    rw [hpY] at hny
    simpa using hny
  obtain ⟨Y₀, hin⟩ := X₁.into (g := { g with stack := rest }) hg (hsize.trans hml.symm) (ig := .invokeinterface index count) (len := 5) (by rw [hb]; exact hdg) #[.ref b, xv] (R' := { frames := rm.frames + 1, locals := (maxL + 11) + rm.locals, cells := mc, slots := ms }) hmk₁ hck₁ hlk₁ hpk₁
    (by show rm.frames + 1 + 1 ≤ R.frames; omega) (by rw [hckL₁]; show 2 * ({ g with stack := rest } : JFrame).monitorRoom + (rest.map fun v => v.category).sum + (2 + 11) + ((maxL + 11) + rm.locals) ≤ R.locals; have : ({ g with stack := rest } : JFrame).monitorRoom = g.monitorRoom := rfl; omega) hf.1 hf.2
  generalize hU : ((T.setVm vm₁).setTop { g with stack := rest }).pushFrame (.java (entryFrame ⟨cK, 1⟩ #[.ref b, xv] ck₁.maxLocals)) = U at Y₀ hin
  have hvmU : U.vm = (T.setVm vm₁).vm := by rw [← hU]; rfl
  have hheapU : U.heap = H := by rw [← hU]; exact hTH
  have hWU : s.WarmedH U.vm := by rw [hvmU]; exact hW₁
  have hK : Back l { frames := rm.frames + 1, locals := (maxL + 11) + rm.locals, cells := mc, slots := ms } p e (.java { g with stack := rest } :: below) ((T.setVm vm₁).calling { g with stack := rest } ⟨cK, 1⟩ #[.ref b, xv]) #[.ref b, xv] y 3 0 (PreOf { frames := rm.frames + 1, locals := (maxL + 11) + rm.locals, cells := mc, slots := ms } mc ms Pc) (PostOf Qc mc ms free) :=
    back_of (bytes := bytes) (maxL := maxL) (ret := rt) hM hbl hrc hrs (Nat.le_refl _) (by show 0 + (maxL + 11) + rm.locals ≤ (maxL + 11) + rm.locals; omega) (fun w hw a' U' hW' => hws w hw a' U' (State.WarmedH.trans hW₁ hW')) hcw (fun a' U' hW' => word_at (State.WarmedH.trans hW₁ hW') (Or.inl (by first | rfl | simp [Cond.onTables, Cond.keeps, Cond.steady])) hini)
  have hynU : U.methodNamed? y = some tY := by
    have q : (T.setVm vm₁).methodNamed? y = some tY := hyn₁
    have q2 : ((T.setVm vm₁).setVm U.vm).methodNamed? y = some tY := by rw [hvmU]; exact q
    exact q2
  obtain ⟨v, ⟨U₁, L₁, c₁, n₁⟩, Y₁, ⟨g9, mk9, t9, L9, q1, q2, q3, q4, q5, q6, q7⟩, hsteps⟩ := hK ⟨cK, 1⟩ methk₁ ck₁ ⟨U, [], 0, 0⟩ { method := ⟨cK, 1⟩, pc := 1, locals := #[.val (.ref b), .val xv], stack := [], locked := none } (.invokestatic mi) tY #[xv] Y₀ rfl (by rw [hckL₁]; rfl) (by rw [hbytes₁]; exact d1) (by show 2 * 0 + 0 ≤ 0; decide) hynU
    ⟨by show 0 + mc ≤ mc; omega, by show 0 + ms ≤ ms; omega, hPc U hheapU hWU⟩
  dsimp only [Pt.U, Pt.locs, Pt.cells, Pt.slots] at Y₁ q1 q2 q3 q4 q6 q7 hsteps
  obtain rfl : v = some (.int r) := Outcome.returned.inj (hQr _ _ _ _ q3)
  obtain ⟨fs, hleave, -, hended, hWe, hsame⟩ := Y₁.leave (v := some (.int r)) (fun h => by rw [hretk₁] at h; cases h) hlk₁
  obtain ⟨T', X', hW', -, ht⟩ := X₁.outOf (g := { g with stack := rest }) hg (by rw [hb]; exact hdg) hended hWe hsame
  refine ⟨some (.int r), U.calling g9 mk9 #[xv], t9, T', L9, hheapU, ?_, q5, (congrArg State.heap ht).symm.trans q1, (congrArg State.vm ht).symm.trans q2, q3, fun target h => hstep₁ _ fun acts => ?_⟩
  · rw [q4, q6, q7] at X'
    simpa using X'
  · rw [hin acts]
    refine Steps.trans ?_ h
    show Steps p.tables e below _ (T'.setTop { g with pc := g.pc + 5, stack := (some (Value.int r)).toList ++ rest })
    rw [← ht]
    refine lam_weaken (mid := [.java { g with stack := rest }]) ?_
    rw [hckL₁, lam_entry _ _ hxr]
    have hs : U.topJava?.isSome := Y₀.here.top
    jvm_step Y₀.here [hx, hbytes₁, d0, hxr]
    jvm_step Y₀.here [hx, hbytes₁, d1, invokestatic.wp_ready (e := e) (s := U) (m := tY) (k := tk₁) (meth := methY) (args := [xv]) (rest := [])
      (f := { method := ⟨cK, 1⟩, pc := 1, locals := #[.val (.ref b), .val xv], stack := [xv], locked := none }) hs ⟨mci, y.name, y.desc, bb, tY.cls, tk₁, by rw [hvmU]; exact hmem₁, by rw [hvmU]; exact hcr₁, by rw [hvmU]; exact htk₁, by simp [hpoly₁]⟩ (by rw [hvmU]; exact hmr₁) (by rw [hvmU]; exact htk₁) (by rw [hvmU]; exact hmY₁) (hpoly₁ _) hstY hini₁ hleny.symm rfl]
    intro acts'
    rw [doInvoke_state]
    refine Steps.trans hsteps ?_
    have hm' : U₁.vm.method? ⟨cK, 1⟩ = some methk₁ := Y₁.method'
    rcases hti with rfl | rfl <;>
    · jvm_step Y₁.here [Y₁.here.top, hx, hbytes₁, d4, hm', hretk₁, hn]
      first | (intro acts''; rw [hleave _ acts'' rfl rfl rfl]) | rw [hleave _ _ rfl rfl rfl]
      exact Steps.refl _
theorem lam_run2 {σ : Lambda.Shape} {caller : String} {D : ClassFile} {fw : Method} {F : Array Field × Array FieldType × Array FieldType} {code : ByteArray} {ret : FieldType} {mi mci mnt mcn fi fci fnt pcs idx index count maxL nL mc ms b : Nat} {nm0 ds0 own : String} {xm x y : MethodName} {cK : ClassId} {one : Option Nat} {bytes cc : ByteArray} {rt : Option FieldType} {ws : List Cond} {rm : Room}
    {Pc : Array Value → State → Prop} {Qc : Array Value → State → Outcome → State → Prop} {free : Addr → Prop} {cv xv : Value} {cell : Cell} {r : Int32} {g : JFrame} {rest : List Value}
    (hx : p.tables.exec = Jvm.exec) (hb : c.code = cc) (hml : c.maxLocals = nL) (hown : s.vm.findClass own = some m.cls)
    (hL : LamC σ caller D fw F code ret mi mci mnt mcn) (d0 : decode code 0 = .ok (.aload_n 0, 1)) (d1 : decode code 1 = .ok (.getfield fi, 3)) (d4 : decode code 4 = .ok (.aload_n 1, 1)) (d5 : decode code 5 = .ok (.invokevirtual mi, 3)) (d8 : decode code 8 = .ok (.ireturn, 1))
    (eF : D.constantPool[fi]? = some (.fieldref fci fnt) ∧ D.constantPool.nameAndType? fnt = some (nm0, ds0) ∧ F.1.findIdx? (·.name == nm0) = some 0 ∧ (F.1[0]?).map (fun f => (f.isStatic, f.slot)) = some (false, 0))
    (hT : lamT xm pcs idx σ cK one s) (hxm : xm.cls = caller) (hO : (Cond.instantiable "java/lang/Object" 0).before args s = true) (hy : y = ⟨σ.implClass, σ.implName, σ.implDesc.toString⟩) (hxx : x = ⟨σ.iface, σ.name, σ.sam.toString⟩)
    (hlink : (Cond.methodLink own index x).before args s = true) (hdecl : (Cond.declares x).before args s = true) (hface : (Cond.interfaceMethod x.cls x.cls x.name x.desc).before args s = true) (hxMH : x.cls ≠ "java/lang/invoke/MethodHandle" ∧ x.cls ≠ "java/lang/invoke/VarHandle")
    (hinst : (Cond.instanceMethod y).before args s = true) (hsel0 : (Cond.selects y.cls y y).before args s = true) {ca : Nat} {cellC : Cell} (hcellC : H[ca]? = some cellC) (hobjC : cellC.vm.isStatics = false) (hclC : s.vm.findClass y.cls = some cellC.cls) (hcv : cv = .ref ca) (hcodeY : (Cond.code y bytes maxL rt).before args s = true) (hini : (Cond.initialized y.cls).before args s = true)
    (hws : ∀ w ∈ ws, ∀ (a' : Array Value) (U : State), s.WarmedH U.vm → w.before a' U = true) (hcw : Cond.code y bytes maxL rt ∈ ws) (hnx : (parseMethodDescriptor x.desc).map (fun d => d.parameters.length) = some 1) (hny : (parseMethodDescriptor y.desc).map (fun d => d.parameters.length) = some 1)
    (hM : Met l y ws rm Pc Qc mc ms free) (hbl : FrameBlind Pc) (hrc : rm.cells = mc) (hrs : rm.slots = ms)
    (hcell : H[b]? = some cell) (hcls : cell.cls = cK) (hvm : cell.vm = .none) (hslot : cell.slots[0]? = some cv) (hxr : xv.isRef = true)
    (hPc : ∀ U : State, U.heap = H → s.WarmedH U.vm → Pc #[cv, xv] U) (hQr : ∀ a st o t, Qc a st o t → o = .returned (some (.int r))) (hn : narrow ret (.int r) = .int r) (hti : ret = .int ∨ ret = .boolean)
    (hg : g.method = m) (hsize : g.locals.size = nL) (hstack : g.stack = xv :: .ref b :: rest) (hW : 2 * g.monitorRoom + (rest.map fun v => v.category).sum ≤ 8) (hdg : decode cc g.pc = .ok (.invokeinterface index count, 5))
    (hf : cells + mc ≤ R.cells ∧ slots + ms ≤ R.slots) (hfr : rm.frames + 2 ≤ R.frames) (hlo : 8 + (2 + 11) + ((maxL + 11) + rm.locals) ≤ R.locals) :
    va_Run5 p l e R s m args below meth c H locs cells slots mc ms g rest (Qc #[cv, xv]) free := by
  intro T hTH X
  obtain ⟨tY, methY, hyn, hmY, hstY, habY⟩ := Cond.instanceMethod_spec hinst
  obtain ⟨r0, k, tk, methk, ck, hk, -, -, hmk, hck, hbytes, hckL, hlk, hfl, hretk, -, -, -, -, htk, -, hpoly, -, hxn, hsel, -, ⟨i, hi, hasg, hway⟩, -⟩ := lam_facts e hL hT hxm hO hy hxx hyn hface
  obtain ⟨r0b, rI, hnI, hrm, hstR, hsigR⟩ := Cond.declares_spec hdecl
  obtain rfl : r0b = r0 := Option.some.inj (hnI.symm.trans hxn)
  obtain ⟨cL, kL, r1, hcL, hkL, hiL, -, hn1⟩ := Cond.interfaceMethod_spec hface
  have hr0cls : r0b.cls = cL := Option.some.inj ((findClass_of_methodNamed hnI).symm.trans hcL)
  cases hcL.symm.trans hi
  obtain ⟨hnameR, hdescR⟩ := name_of_methodNamed hnI hrm
  have hselP : selectMethod e.platform s.vm cell.cls r0b = .method ⟨cK, 1⟩ := by rw [Launch.admits_selectMethod X.admits, hcls]; exact hsel
  have hlenx : [xv].length = rI.sig.parameters.length := by
    rw [hsigR] at hnx
    simpa using (Option.some.inj hnx).symm
  obtain ⟨vm₁, X₁, hstep₁⟩ := X.invokeinterface hx hown hlink hnI hrm hstR (by rw [hr0cls]; exact hkL) hiL hxMH (a := b) (cell := cell) (kcell := k) (by rw [hTH]; exact hcell)
    (fun z h => by rw [hvm] at h; cases h) (by rw [hcls]; exact hk) (by rw [hr0cls, hcls]; exact hasg) hselP hmk (by rw [hnameR, hdescR, hcls]; exact hway) (by rw [hfl]; decide) (by simp [Method.isAbstract, hfl, hasFlag, Acc.abstract])
    (g := g) hg (argsL := [xv]) (rest := rest) hlenx hstack (by rw [hb]; exact hdg)
  have hW₁ : s.WarmedH (T.setVm vm₁).vm := X₁.warmed
  obtain ⟨r0₁, k₁, tk₁, methk₁, ck₁, hk₁, -, -, hmk₁, hck₁, hbytes₁, hckL₁, hlk₁, hfl₁, hretk₁, hpk₁, ⟨bb, hmem₁⟩, hcr₁, hmr₁, htk₁, htkI₁, hpoly₁, hyn₁, -, -, hfield₁, -, ⟨fileK, nK, hfK, hpK⟩⟩ :=
    lam_facts e hL (hT.warm (U := T.setVm vm₁) hW₁) hxm (word_at hW₁ (Or.inl rfl) hO) hy hxx (X₁.named hyn) (face_at (args := args) (a' := args) hW₁.alike hnI hxMH hface)
  have hmY₁ : (T.setVm vm₁).vm.method? tY = some methY := by rw [hW₁.alike.method?]; exact hmY
  have hini₁ : tk₁.init = .initialized := Cond.initialized_spec (findClass_of_methodNamed hyn₁) htk₁ (word_at (a' := args) hW₁ (Or.inl rfl) hini)
  obtain ⟨methY2, cY, hmY2, -, -, -, -, -, -, hpY⟩ := Cond.code_spec hyn hcodeY
  cases hmY.symm.trans hmY2
  have hleny : methY.sig.parameters.length = 1 := by
    rw [hpY] at hny
    simpa using hny
  obtain ⟨Y₀, hin⟩ := X₁.into (g := { g with stack := rest }) hg (hsize.trans hml.symm) (ig := .invokeinterface index count) (len := 5) (by rw [hb]; exact hdg) #[.ref b, xv] (R' := { frames := rm.frames + 1, locals := (maxL + 11) + rm.locals, cells := mc, slots := ms }) hmk₁ hck₁ hlk₁ hpk₁
    (by show rm.frames + 1 + 1 ≤ R.frames; omega) (by rw [hckL₁]; show 2 * ({ g with stack := rest } : JFrame).monitorRoom + (rest.map fun v => v.category).sum + (2 + 11) + ((maxL + 11) + rm.locals) ≤ R.locals; have : ({ g with stack := rest } : JFrame).monitorRoom = g.monitorRoom := rfl; omega) hf.1 hf.2
  generalize hU : ((T.setVm vm₁).setTop { g with stack := rest }).pushFrame (.java (entryFrame ⟨cK, 1⟩ #[.ref b, xv] ck₁.maxLocals)) = U at Y₀ hin
  have hvmU : U.vm = (T.setVm vm₁).vm := by rw [← hU]; rfl
  have hheapU : U.heap = H := by rw [← hU]; exact hTH
  have hWU : s.WarmedH U.vm := by rw [hvmU]; exact hW₁
  have hK : Back l { frames := rm.frames + 1, locals := (maxL + 11) + rm.locals, cells := mc, slots := ms } p e (.java { g with stack := rest } :: below) ((T.setVm vm₁).calling { g with stack := rest } ⟨cK, 1⟩ #[.ref b, xv]) #[.ref b, xv] y 3 0 (PreOf { frames := rm.frames + 1, locals := (maxL + 11) + rm.locals, cells := mc, slots := ms } mc ms Pc) (PostOf Qc mc ms free) :=
    back_of (bytes := bytes) (maxL := maxL) (ret := rt) hM hbl hrc hrs (Nat.le_refl _) (by show 0 + (maxL + 11) + rm.locals ≤ (maxL + 11) + rm.locals; omega) (fun w hw a' U' hW' => hws w hw a' U' (State.WarmedH.trans hW₁ hW')) hcw (fun a' U' hW' => word_at (State.WarmedH.trans hW₁ hW') (Or.inl (by first | rfl | simp [Cond.onTables, Cond.keeps, Cond.steady])) hini)
  have hynU : U.methodNamed? y = some tY := by
    have q : (T.setVm vm₁).methodNamed? y = some tY := hyn₁
    have q2 : ((T.setVm vm₁).setVm U.vm).methodNamed? y = some tY := by rw [hvmU]; exact q
    exact q2
  obtain ⟨v, ⟨U₁, L₁, c₁, n₁⟩, Y₁, ⟨g9, mk9, t9, L9, q1, q2, q3, q4, q5, q6, q7⟩, hsteps⟩ := hK ⟨cK, 1⟩ methk₁ ck₁ ⟨U, [], 0, 0⟩ { method := ⟨cK, 1⟩, pc := 5, locals := #[.val (.ref b), .val xv], stack := [], locked := none } (.invokevirtual mi) tY #[cv, xv] Y₀ rfl (by rw [hckL₁]; rfl) (by rw [hbytes₁]; exact d5) (by show 2 * 0 + 0 ≤ 0; decide) hynU
    ⟨by show 0 + mc ≤ mc; omega, by show 0 + ms ≤ ms; omega, hPc U hheapU hWU⟩
  dsimp only [Pt.U, Pt.locs, Pt.cells, Pt.slots] at Y₁ q1 q2 q3 q4 q6 q7 hsteps
  obtain rfl : v = some (.int r) := Outcome.returned.inj (hQr _ _ _ _ q3)
  obtain ⟨fs, hleave, -, hended, hWe, hsame⟩ := Y₁.leave (v := some (.int r)) (fun h => by rw [hretk₁] at h; cases h) hlk₁
  obtain ⟨T', X', hW', -, ht⟩ := X₁.outOf (g := { g with stack := rest }) hg (by rw [hb]; exact hdg) hended hWe hsame
  refine ⟨some (.int r), U.calling g9 mk9 #[cv, xv], t9, T', L9, hheapU, ?_, q5, (congrArg State.heap ht).symm.trans q1, (congrArg State.vm ht).symm.trans q2, q3, fun target h => hstep₁ _ fun acts => ?_⟩
  · rw [q4, q6, q7] at X'
    simpa using X'
  · rw [hin acts]
    refine Steps.trans ?_ h
    show Steps p.tables e below _ (T'.setTop { g with pc := g.pc + 5, stack := (some (Value.int r)).toList ++ rest })
    rw [← ht]
    refine lam_weaken (mid := [.java { g with stack := rest }]) ?_
    rw [hckL₁, lam_entry _ _ hxr]
    have hs : U.topJava?.isSome := Y₀.here.top
    obtain ⟨g0, hg0, hp0⟩ := Option.map_eq_some_iff.mp eF.2.2.2
    simp only [Prod.mk.injEq] at hp0
    jvm_step Y₀.here [hx, hbytes₁, d0, Value.isRef]
    jvm_step Y₀.here [hx, hbytes₁, d1, getfield.wp_ready (e := e) (s := U) (c := cK) (field := g0) (a := b) (rest := []) (cell := cell) (v := cv)
      (f := { method := ⟨cK, 1⟩, pc := 1, locals := #[.val (.ref b), .val xv], stack := [.ref b], locked := none }) hs (by rw [hvmU]; exact hfield₁ _ _ _ _ _ _ eF.1 eF.2.1 eF.2.2.1 hg0) hp0.1 rfl (by rw [hheapU]; exact hcell) (by rw [hvm]; intro h; cases h) (by rw [hp0.2]; exact hslot)]
    jvm_step Y₀.here [hx, hbytes₁, d4, hxr]
    subst hcv
    obtain ⟨c2, r2, m2, z1, z2, z3, z4, -⟩ := Cond.selects_spec (word_at (a' := args) hW₁ (Or.inl (by first | rfl | simp [Cond.onTables, Cond.keeps, Cond.steady])) hsel0)
    cases hyn₁.symm.trans z3
    have hc2 : c2 = cellC.cls := Option.some.inj (z1.symm.trans (by rw [hW₁.alike.findClass]; exact hclC))
    subst hc2
    have hr2 : r2 = tY := by
      have hyn2 := hyn₁
      simp only [State.methodNamed?, Option.bind_eq_bind, Option.bind_eq_some_iff, Option.pure_def] at hyn2
      obtain ⟨c4, hc4, k4, hk4, i4, hi4, he4⟩ := hyn2
      simp only [State.methodFound?, Option.bind_eq_bind, Option.bind_eq_some_iff] at z2
      obtain ⟨c3, hc3, k3, hk3, he3⟩ := z2
      cases hc4.symm.trans hc3
      cases hk4.symm.trans hk3
      have hct := Option.some.inj (hc3.symm.trans (findClass_of_methodNamed hyn₁))
      subst hct
      cases hk3.symm.trans htk₁
      rw [gives_ask (lam_methodIn { classPath := fun _ => none } htk₁ rfl hpoly₁ hi4)] at he3
      exact (Option.some.inj he3).symm.trans (Option.some.inj he4)
    subst hr2
    jvm_step Y₀.here [hx, hbytes₁, d5, invokevirtual.wp_ready (e := e) (s := U) (r := r2) (m := r2) (k := tk₁) (mk := tk₁) (rmeth := methY) (meth := methY) (a := ca) (args := [xv]) (rest := []) (cell := cellC)
      (f := { method := ⟨cK, 1⟩, pc := 5, locals := #[.val (.ref b), .val xv], stack := [xv, .ref ca], locked := none }) hs ⟨k₁, fileK, mci, nK, r2.cls, tk₁, by rw [hvmU]; exact hk₁, hfK, hpK, by rw [hvmU]; exact hcr₁, by rw [hvmU]; exact htk₁, htkI₁⟩ (by rw [hvmU]; exact hmr₁) (by rw [hvmU]; exact htk₁) (by rw [hvmU]; exact hmY₁) (hpoly₁ _) hstY hleny.symm rfl
      (by rw [hheapU]; exact hcellC) (fun z h => by rw [h] at hobjC; cases hobjC) (by rw [hvmU, Launch.admits_selectMethod X.admits]; exact z4) (by rw [hvmU]; exact hmY₁) habY (by rw [hvmU]; exact htk₁) htkI₁]
    intro acts'
    rw [doInvoke_state]
    refine Steps.trans hsteps ?_
    have hm' : U₁.vm.method? ⟨cK, 1⟩ = some methk₁ := Y₁.method'
    rcases hti with rfl | rfl <;>
    · jvm_step Y₁.here [Y₁.here.top, hx, hbytes₁, d8, hm', hretk₁, hn]
      first | (intro acts''; rw [hleave _ acts'' rfl rfl rfl]) | rw [hleave _ _ rfl rfl rfl]
      exact Steps.refl _
end LAMR
