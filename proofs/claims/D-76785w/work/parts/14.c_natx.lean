/-! printed by gen/natx.py: what the machine throws out of a native method (a native frame between), no traces kept; turned from rows of EXCEPTIONS.to-paste; the rows nx_ follow proofs of the library (Shelf42/NT21) -/
set_option maxRecDepth 100000
set_option maxHeartbeats 4000000
set_option linter.unusedVariables false
theorem vx_natAt {p : Program} {l : Launch} {e : Env} {R : Room} {s : State} {m₀ : MethodId} {args : Array Value} {below : List Frame} {meth : Method} {c : Code} {W : State} {locs : List Loc} {cells slots : Nat}
    (X : Stand p l e R s m₀ args below meth c W locs cells slots) (hexec : p.tables.exec = Jvm.exec) (htr : e.platform.stackTraces = false) {cls : String} {names : List String} {text : String}
    (hcls : Bundle.fit cls = true) (hnames : ∀ n ∈ names, Bundle.fit n = true) (hsoe : (cls == "java/lang/StackOverflowError") = false) (hoom : (cls == "java/lang/OutOfMemoryError") = false)
    (h : ∀ a ∈ Bundle.messageArmAtoms cls names, a.before args s = true)
    (hlocs : ∀ x ∈ locs, ∀ cell, s.heap[x.base]? = some cell → cell.vm.isStatics = false)
    (htext : (text == notModelled) = false) (hlimit : ¬ (stringBytes (stringToUtf16 text)).size > e.platform.arrayLengthLimit) (hheap : ¬ (stringBytes (stringToUtf16 text)).size * componentBytes .byte > e.platform.maxHeapBytes)
    {g : JFrame} (hg : g.method = m₀) (hsize : g.locals.size = c.maxLocals) {nf : NFrame} (hnf : nf.words = 0)
    (hRframes : names.length + 5 < R.frames) (hRlocals : 2 * g.monitorRoom + (g.stack.map fun v => v.category).sum + 10240 ≤ R.locals) (hshort : 13 * names.length + 55 ≤ 10240)
    (hRcells : cells + 3 ≤ R.cells) (hRslots : slots + ((stringBytes (stringToUtf16 text)).size + 4 + 6) ≤ R.slots) :
    ∃ (S : State) (q : Addr) (ce : Cell), Steps p.tables e below (W.setFrames (.throwNew cls (some text) none :: .native nf :: .java g :: below)) (S.setFrames (.throwing q :: .native nf :: .java g :: below)) ∧
      Stand p l e R s m₀ args below meth c S locs (cells + 3) (slots + ((stringBytes (stringToUtf16 text)).size + 4 + 6)) ∧ S.heap[q]? = some ce ∧ s.vm.findClass cls = some ce.cls ∧ ce.vm = .none := by
  have howns : e.platform.frameOwnsMonitors = true := by rw [X.admits.platform]
  have hfin : e.platform.finalization = false := by rw [X.admits.platform]
  have hpl : e.platform.magicAccessors = ({} : Platform).magicAccessors := by rw [X.admits.platform]
  have a : ∀ x, x ∈ Bundle.messageArmAtoms cls names → x.holds args s none s [] = true := fun x hx => h x hx
  obtain ⟨T, Z0, L, -, Y⟩ := ThrowableC.of_atoms (args := args) howns hfin hpl (fun x hx => h x (by simp [Bundle.messageArmAtoms, hx]))
  obtain ⟨Z, M, LZ, LM, hnZ⟩ := Init0T.ofS_atoms (args := args) hpl L Y (fun x hx => h x (by simp [Bundle.messageArmAtoms, hx]))
  obtain ⟨P1, Ps, hlen, L1, hL, hP1m, hlink1, hlink⟩ := Bundle.chainS (args := args) hpl hnZ names cls hcls hnames (fun x hx => h x (by simp [Bundle.messageArmAtoms, hx]))
  obtain ⟨Zs, LZs, hn4, hfitv, hfitc⟩ := StringT.of_atoms (args := args) (fun x hx => h x (by simp [Bundle.messageArmAtoms, hx]))
  have hfound : s.vm.findClass cls = some P1.m.cls := findClass_of_methodNamed hP1m
  obtain ⟨c1, kX, hc1, hk, hord, -, -, hn6⟩ := Cond.instantiable_spec (a (.instantiable cls 6) (by simp [Bundle.messageArmAtoms]))
  cases Option.some.inj (hc1.symm.trans hfound)
  have hinit := Cond.initialized_spec hfound hk (a (.initialized cls) (by simp [Bundle.messageArmAtoms]))
  have hctor : kX.findMethod "<init>" "(Ljava/lang/String;)V" = some P1.m.idx := findMethod_of_methodNamed hP1m hk
  have hsel0 : selectMethod e.platform s.vm P1.m.cls T.fill0 = .method T.fill0 := by
    obtain ⟨c2, r2, m2, q1, q2, q3, q4, -⟩ := Cond.selects_spec (a (.selects cls Bundle.tFill0 Bundle.tFill0) (by simp [Bundle.messageArmAtoms]))
    cases Option.some.inj (q1.symm.trans hfound)
    cases Option.some.inj (q2.symm.trans (State.methodFound?_of_named Y.fill0 (by decide)))
    cases Option.some.inj (q3.symm.trans Y.fill0)
    rw [Launch.admits_selectMethod X.admits]; exact q4
  have hselF : selectMethod e.platform s.vm P1.m.cls T.fill = .method T.fill := by
    obtain ⟨c2, r2, m2, q1, q2, q3, q4, -⟩ := Cond.selects_spec (a (.selects cls Bundle.tFill Bundle.tFill) (by simp [Bundle.messageArmAtoms]))
    cases Option.some.inj (q1.symm.trans hfound)
    cases Option.some.inj (q2.symm.trans (State.methodFound?_of_named Y.fill (by decide)))
    cases Option.some.inj (q3.symm.trans Y.fill)
    rw [Launch.admits_selectMethod X.admits]; exact q4
  obtain ⟨cellS0, hcS0, hiss⟩ := Y.statics
  obtain ⟨u0, hu0⟩ := Cond.staticRefV Y.unassigned L.unassignedStatic L.statics hcS0 hiss (a (.isRef (.static Bundle.tN "UNASSIGNED_STACK" Bundle.steD)) (by simp [Bundle.messageArmAtoms]))
  obtain ⟨sen, hsen⟩ := Cond.staticRefV Y.sentinel L.sentinelStatic L.statics hcS0 hiss (a (.isRef (.static Bundle.tN "SUPPRESSED_SENTINEL" Bundle.listD)) (by simp [Bundle.messageArmAtoms]))
  obtain ⟨ci198, i198, fB, hk198, hg198, ha198, hsB, -, hnB, htB, hffB⟩ := Cond.ownField (t := .object "java/lang/Object") Y.found L.cls (by decide +kernel) (a (.fieldLink Bundle.tN 198 Bundle.tN "backtrace" "Ljava/lang/Object;") (by simp [Bundle.messageArmAtoms])) (a (.lays Bundle.tN Bundle.tN "backtrace" "Ljava/lang/Object;") (by simp [Bundle.messageArmAtoms])) e.platform hpl
  obtain ⟨cellS, hcS', heS, -, hkeep⟩ := X.same.2.2.2.2.2 T.aS cellS0 hcS0
  have hcellS : W.heap[T.aS]? = some cellS := hcS'
  have hout' : ∀ i, (⟨T.aS, i⟩ : Loc) ∉ locs := fun i hmem => by
    have := hlocs _ hmem cellS0 hcS0
    rw [hiss] at this; cases this
  have hknownS : cellS.vm ≠ .unknown := by
    rw [heS]; intro hu
    rw [show cellS0.vm = .unknown from hu] at hiss
    cases hiss
  have hvU : cellS.slots[T.fUnassigned.slot]? = some u0.v := by rw [hkeep _ (hout' _)]; exact hu0
  have hvSen : cellS.slots[T.fSentinel.slot]? = some sen.v := by rw [hkeep _ (hout' _)]; exact hsen
  obtain ⟨iM, hffM⟩ := Y.msg
  obtain ⟨tyC, dC, hdC, hdnC⟩ := Cond.laysAt hfound hk Y.cause (a (.lays cls Bundle.tN "cause" "Ljava/lang/Throwable;") (by simp [Bundle.messageArmAtoms]))
  obtain ⟨tyS, dS, hdS, hdnS⟩ := Cond.laysAt hfound hk Y.stack (a (.lays cls Bundle.tN "stackTrace" Bundle.steD) (by simp [Bundle.messageArmAtoms]))
  obtain ⟨tyP, dP, hdP, hdnP⟩ := Cond.laysAt hfound hk Y.supp (a (.lays cls Bundle.tN "suppressedExceptions" Bundle.listD) (by simp [Bundle.messageArmAtoms]))
  obtain ⟨tyM, dM, hdM, hdnM⟩ := Cond.laysAt hfound hk hffM (a (.lays cls Bundle.tN "detailMessage" "Ljava/lang/String;") (by simp [Bundle.messageArmAtoms]))
  obtain ⟨tyB, dB, hdB, hdnB⟩ := Cond.laysAt hfound hk hffB (a (.lays cls Bundle.tN "backtrace" "Ljava/lang/Object;") (by simp [Bundle.messageArmAtoms]))
  have bC := Cond.laysApart hdB hdC hdnB hdnC (by rw [hnB, Y.causeName]; decide)
  have bS := Cond.laysApart hdB hdS hdnB hdnS (by rw [hnB, Y.stackName]; decide)
  have bP := Cond.laysApart hdB hdP hdnB hdnP (by rw [hnB, Y.suppName]; decide)
  have hbk : ((preparedCellV T.toThrowableT (freshCell P1.m.cls kX) (W.heap.size + 2) u0 sen).withEntry W.cur).slots[fB.slot]? = some .null := by
    have := fresh_default (c := P1.m.cls) tyB
    rw [htB] at this
    simpa [preparedCellV, Cell.setSlot, Cell.withEntry, Array.getElem?_setIfInBounds, bC, bS, bP, bC.symm, bS.symm, bP.symm, defaultValue] using this
  have tkC := Takes.of_laid (v := .ref (W.heap.size + 2)) hk hord tyC (by rw [Y.causeType]; rfl)
  have tkS := Takes.of_laid (v := u0.v) hk hord tyS (by rw [Y.stackType]; exact fits_refV_array _ u0)
  have tkP := Takes.of_laid (v := sen.v) hk hord tyP (by rw [Y.suppType]; exact fits_refV_object _ sen)
  have tkM := Takes.of_laid (v := .ref (W.heap.size + 1)) hk hord tyM (by rw [Y.msgType]; rfl)
  have hskip : SkipFacts T e.platform s (fun u => u) u0 ((preparedCellV T.toThrowableT (freshCell P1.m.cls kX) (W.heap.size + 2) u0 sen).withEntry W.cur) := ⟨{ ci198 := ci198, i198 := i198, fBack := fB }, ⟨hk198, hg198, ha198, hsB⟩, hbk, fun _ _ => rfl⟩
  obtain ⟨vm', X5, st, -⟩ := X.nativeThrowsMessageColdBareV hexec hsize hnf T L Z LZ M LM Zs LZs P1 L1 Ps hL hlink1 hlink hsoe hoom hfound hk hinit hord hctor htext hlimit hheap
    (hfitv _) (hfitc _) hsel0 hselF hcellS hknownS hvU hvSen tkC tkS tkP tkM Y.objLocals hskip (fun _ u hA hW _ hroom t' hrest => L.nativeOff p htr hA hW hroom hrest)
    (by rw [hlen]; exact hRframes) hRlocals (by rw [hlen]; exact hshort) (by omega) (by rw [hn4, hn6]; omega)
  have b1 : (bytesOf Zs.cB (stringToUtf16 text)).slots.size = (stringBytes (stringToUtf16 text)).size := by
    rw [(Cell.writeAll_facts _ _).2.2]; simp [bytes0]
  have b2 : (stringAt Zs.cS Zs.kS Zs.fv Zs.fc (stringToUtf16 text) W.heap.size).slots.size = 4 := by simp [string0, Cell.setSlot, hn4]
  have b3 : (freshCell P1.m.cls kX).slots.size = 6 := by simp [hn6]
  have ha : W.heap.size + 2 < ((withThrown W Zs text P1.m.cls kX).setVm vm').heap.size := by
    show W.heap.size + 2 < (withThrown W Zs text P1.m.cls kX).heap.size
    rw [(withThrown_facts e.platform W Zs text P1.m.cls kX).2.2.1]; omega
  rw [b1, b2, b3] at X5
  have e9 : slots + (stringBytes (stringToUtf16 text)).size + 4 + 6 = slots + ((stringBytes (stringToUtf16 text)).size + 4 + 6) := by omega
  rw [e9] at X5
  refine ⟨_, W.heap.size + 2, _, st, X5.forget (fun y hy => ?_), heapAt_setCell_self _ ha, hfound, rfl⟩
  simp only [List.mem_cons, List.not_mem_nil, or_false] at hy
  have hge : s.heap.size ≤ W.heap.size := X.same.2.1
  rcases hy with rfl | rfl | rfl | rfl | rfl <;> exact Nat.le_trans hge (Nat.le_add_right _ 2)
/-! NullPointerException made by the machine, whatever frames stand below -/
section NX
variable {e : Env} {below base : List Frame}
/-- from the note to the call of the constructor -/
theorem nx_start (p : Program) {S target : State} (h : Jvm.Over S base below) {cX : ClassId} {kX : Class} {i : Nat} (hfound : S.vm.findClass "java/lang/NullPointerException" = some cX) (hk : S.vm.classes[cX]? = some kX) (hinit : kX.init = .initialized) (hord : kX.kind = .ordinary) (hhot : e.platform.hotImplicitExceptions = false)
    (hbey : e.platform.stackBeyond ((((S.setFrames (.throwNew "java/lang/NullPointerException" none none :: base)).threads[S.cur]?).map (·.stackBytes)).getD 0) (S.setFrames (.throwNew "java/lang/NullPointerException" none none :: base)).frames = false)
    (hfree : e.platform.vmThrowRoom ≤ e.platform.stackFree ((((S.setFrames (.throwNew "java/lang/NullPointerException" none none :: base)).threads[S.cur]?).map (·.stackBytes)).getD 0) (S.setFrames (.throwNew "java/lang/NullPointerException" none none :: base)).frames)
    (hctor : kX.findMethod "<init>" "()V" = some i) (hcells : S.heap.size + 1 ≤ e.platform.maxCells) (hslots : S.slotsUsed + kX.instanceTypes.size ≤ e.platform.maxSlots)
    (go : Steps p.tables e below (doInvoke e ((S.pushCell (freshCell cX kX)).setFrames (.thenThrow S.heap.size :: base)) [] ⟨cX, i⟩ #[.ref S.heap.size]).1 target) :
    Steps p.tables e below (S.setFrames (.throwNew "java/lang/NullPointerException" none none :: base)) target := by
  obtain ⟨mid, hmid⟩ := h.above
  have hf : (S.setFrames (.throwNew "java/lang/NullPointerException" none none :: base)).frames = .throwNew "java/lang/NullPointerException" none none :: base := State.frames_setFrames _ h.cur
  refine Steps.head ⟨h.running, by simpa using h.runnable, by simpa using h.alone⟩ ⟨.throwNew "java/lang/NullPointerException" none none :: mid, by rw [hf, hmid]; rfl, by simp, by simp⟩ ?_
  rw [stepThread_throwNew hf, stepThrowNew_plain (s := S.setFrames (.throwNew "java/lang/NullPointerException" none none :: base)) (c := cX) (k := kX) (i := i) (by decide) (by decide) hfound hk hinit hord hhot hbey hfree hctor hcells hslots, State.pushCell_setFrames, State.setFrames_setFrames]
  exact go
/-- inside the constructor -/
theorem nx_in {W : State} (hW : Jvm.Over W base below) (q : Addr) {m : MethodId} {meth : Method} {code : Code} (hm : W.vm.method? m = some meth) (hc : meth.code = some code) (hpl : W.plainMethod m) :
    (W.setFrames (.thenThrow q :: base)).frames = .thenThrow q :: base ∧ At ((W.setFrames (.thenThrow q :: base)).pushFrame (.java (pass0J m q 0 []))) m code below ∧ ((W.setFrames (.thenThrow q :: base)).pushFrame (.java (pass0J m q 0 []))).frames = .java (pass0J m q 0 []) :: .thenThrow q :: base := by
  obtain ⟨mid, hmid⟩ := hW.above
  have h1 : (W.setFrames (.thenThrow q :: base)).frames = .thenThrow q :: base := State.frames_setFrames _ hW.cur
  have h2 : (W.setFrames (.thenThrow q :: base)).cur < (W.setFrames (.thenThrow q :: base)).threads.size := State.cur_lt_of_frames h1
  refine ⟨h1, At.pushOn _ ⟨hW.running, by simpa using hW.runnable, by simpa using hW.alone⟩ h2 ⟨.thenThrow q :: mid, by rw [h1, hmid]; rfl⟩ hm hc hpl, ?_⟩
  rw [show ((W.setFrames (.thenThrow q :: base)).pushFrame (.java (pass0J m q 0 []))).frames = .java (pass0J m q 0 []) :: (W.setFrames (.thenThrow q :: base)).frames from State.frames_setFrames _ h2, h1]
/-- the constructor's return -/
theorem nx_out (p : Program) {W target : State} (hW : Jvm.Over W base below) (hx : p.tables.exec = Jvm.exec) {K : State → State} (hK : HeapOnly K) (q : Addr) {m : MethodId} {meth : Method} {code : Code} (hm : W.vm.method? m = some meth) (hc : meth.code = some code) (hpl : W.plainMethod m) (hl : meth.locks = false) (hd : decode code.code 4 = .ok (.return_, 1))
    (go : Steps p.tables e below ((K W).setFrames (.throwing q :: base)) target) :
    Steps p.tables e below ((K ((W.setFrames (.thenThrow q :: base)).pushFrame (.java (pass0J m q 0 [])))).setTop (pass0J m q 4 [])) target := by
  obtain ⟨h1, hI, h3⟩ := nx_in hW q hm hc hpl
  obtain ⟨mid, hmid⟩ := hW.above
  have hB : At (K ((W.setFrames (.thenThrow q :: base)).pushFrame (.java (pass0J m q 0 [])))) m code below := hK.at_ hI
  have h4 : (K ((W.setFrames (.thenThrow q :: base)).pushFrame (.java (pass0J m q 0 [])))).frames = .java (pass0J m q 0 []) :: .thenThrow q :: base := by rw [hK.frames]; exact h3
  have h5 : ∀ F, (K ((W.setFrames (.thenThrow q :: base)).pushFrame (.java (pass0J m q 0 [])))).setFrames F = (K W).setFrames F := fun F => by
    rw [State.pushFrame, hK.setFrames, hK.setFrames, State.setFrames_setFrames, State.setFrames_setFrames]
  jvm_step hB [hx, hd, Op.return_.wp_sem]
  intro acts2
  rw [ret_to (t := K ((W.setFrames (.thenThrow q :: base)).pushFrame (.java (pass0J m q 0 [])))) (f := pass0J m q 4 []) (f₀ := pass0J m q 0 []) (below := .thenThrow q :: base) (fs := .thenThrow q :: base) (meth := meth) h4 (by rw [hK.vm]; exact hm) hl rfl rfl rfl acts2]
  have h6 : ((K ((W.setFrames (.thenThrow q :: base)).pushFrame (.java (pass0J m q 0 [])))).setFrames (.thenThrow q :: base)).frames = .thenThrow q :: base := State.frames_setFrames _ (State.cur_lt_of_frames h4)
  refine Steps.head ⟨hB.running, by simpa using hB.runnable, by simpa using hB.alone⟩ ⟨.thenThrow q :: mid, by rw [h6, hmid]; rfl, by simp, by simp⟩ ?_
  rw [stepThread_thenThrow h6]
  show Steps p.tables e below (((K ((W.setFrames (.thenThrow q :: base)).pushFrame (.java (pass0J m q 0 [])))).setFrames (.thenThrow q :: base)).setFrames (.throwing q :: base)) target
  rw [State.setFrames_setFrames, h5]
  exact go
/-- the object behind its constructor -/
def nxC (T : ThrowableC) (N : NpeC) (cell : Cell) (q : Addr) (u0 sen : RefV) (t : ThreadId) : Cell := (npeCell N.toNpeT (preparedCellV T.toThrowableT cell q u0 sen) t).withEntry t
/-- from the note to 'throwing' -/
theorem nx_npe (p : Program) {s₀ S : State} (h : Jvm.Over S base below) (hx : p.tables.exec = Jvm.exec)
    (T : ThrowableC) (L : T.Links e.platform s₀) (Z : Init0T) (LZ : Z.Laid T.toThrowableT) (N : NpeC) (LN : N.Links T e.platform s₀) (hW : s₀.WarmedH S.vm)
    (P1 : PassC) (L1 : P1.Links0 e.platform s₀) (Ps : List PassC) (hL : ∀ P, P ∈ Ps → P.Links0 e.platform s₀) (hlink1 : P1.sup = firstOf (Z.m T.toThrowableT) (Ps.map (·.toPassT))) (hlink : PassesOn (Z.m T.toThrowableT) (Ps.map (·.toPassT)))
    {kX : Class} (hfound : s₀.vm.findClass "java/lang/NullPointerException" = some P1.m.cls) (hk : s₀.vm.classes[P1.m.cls]? = some kX) (hinit : kX.init = .initialized) (hord : kX.kind = .ordinary)
    (hctor : kX.findMethod "<init>" "()V" = some P1.m.idx) (hhot : e.platform.hotImplicitExceptions = false)
    (hbey : e.platform.stackBeyond ((((S.setFrames (.throwNew "java/lang/NullPointerException" none none :: base)).threads[S.cur]?).map (·.stackBytes)).getD 0) (S.setFrames (.throwNew "java/lang/NullPointerException" none none :: base)).frames = false)
    (hfree : e.platform.vmThrowRoom ≤ e.platform.stackFree ((((S.setFrames (.throwNew "java/lang/NullPointerException" none none :: base)).threads[S.cur]?).map (·.stackBytes)).getD 0) (S.setFrames (.throwNew "java/lang/NullPointerException" none none :: base)).frames)
    (hcells : S.heap.size + 1 ≤ e.platform.maxCells) (hslots : S.slotsUsed + kX.instanceTypes.size ≤ e.platform.maxSlots) {u0 sen : RefV} {cellS : Cell}
    (hsel0 : selectMethod e.platform s₀.vm (freshCell P1.m.cls kX).cls T.fill0 = .method T.fill0) (hcellS : S.heap[T.aS]? = some cellS) (hknownS : cellS.vm ≠ .unknown) (hvU : cellS.slots[T.fUnassigned.slot]? = some u0.v)
    (hv0 : (freshCell P1.m.cls kX).slots[N.fState.slot]? = some (.int 0)) (hneC : T.fCause.slot ≠ N.fState.slot) (hneSt : T.fStack.slot ≠ N.fState.slot) (hneP : T.fSupp.slot ≠ N.fState.slot)
    (htS : Takes s₀ (freshCell P1.m.cls kX) T.fStack u0.v) (ht1 : Takes s₀ (freshCell P1.m.cls kX) N.fState (.int 1))
    (hskip : SkipFacts T e.platform s₀ (fun u => u) u0 (nxC T N (freshCell P1.m.cls kX) S.heap.size u0 sen S.cur))
    (hnat : u0.v ≠ .null → ∀ u : State, At u T.fill T.codeFill below → s₀.WarmedH u.vm → u.heap[S.heap.size]? = some (nxC T N (freshCell P1.m.cls kX) S.heap.size u0 sen S.cur) →
      e.platform.stackFull (((u.setTop (fillJ T.fill S.heap.size 16 [])).threads[(u.setTop (fillJ T.fill S.heap.size 16 [])).cur]?).getD { frames := [] }) (u.setTop (fillJ T.fill S.heap.size 16 [])).frames (nativeFrameWords "java/lang/Throwable" "fillInStackTrace" 2) = false → ∀ t' : State,
      Steps p.tables e below (u.setTop (fillJ T.fill S.heap.size 19 [.ref S.heap.size])) t' →
      Steps p.tables e below (doInvoke e (u.setTop (fillJ T.fill S.heap.size 16 [])) [] T.fill0 #[.ref S.heap.size, .int 0]).1 t')
    (hselF : selectMethod e.platform s₀.vm (freshCell P1.m.cls kX).cls T.fill = .method N.fill) (hvSen : cellS.slots[T.fSentinel.slot]? = some sen.v)
    (htC : Takes s₀ (freshCell P1.m.cls kX) T.fCause (.ref S.heap.size)) (htP : Takes s₀ (freshCell P1.m.cls kX) T.fSupp sen.v) (hobj : T.codeObj.maxLocals = 1)
    {lim : Nat × Nat} (hlim : e.platform.stackLimits S.me = lim) (hfr : base.length + Ps.length + 5 < lim.1) (hwd : (stackUse base).2 + 13 * Ps.length + 68 ≤ lim.2) :
    ∃ vm', s₀.WarmedH vm' ∧ ∀ target, Steps p.tables e below ((((S.pushCell (freshCell P1.m.cls kX)).setVm vm').setCell S.heap.size ((nxC T N (freshCell P1.m.cls kX) S.heap.size u0 sen S.cur).setSlot T.fStack.slot u0.v).left.left).setFrames (.throwing S.heap.size :: base)) target →
      Steps p.tables e below (S.setFrames (.throwNew "java/lang/NullPointerException" none none :: base)) target := by
  obtain ⟨kX', hk', he'⟩ := hW.alike.2.2 _ _ hk
  have hty : kX'.instanceTypes = kX.instanceTypes := by rw [he']
  have hfresh : freshCell P1.m.cls kX' = freshCell P1.m.cls kX := by
    show ({ cls := P1.m.cls, slots := kX'.instanceTypes.map defaultValue, vm := .none } : Cell) = _
    rw [hty]
  have hltS : T.aS < S.heap.size := (Array.getElem?_eq_some_iff.mp hcellS).1
  have w5 : (S.pushCell (freshCell P1.m.cls kX)).heap[T.aS]? = some cellS := by
    rw [← hcellS]
    simp [State.pushCell, Array.getElem?_push, Nat.ne_of_lt hltS]
  have hWat : Jvm.Over (S.pushCell (freshCell P1.m.cls kX)) base below := (Over.pushCell_iff _).mpr h
  have hself := State.heap_pushCell_size S (freshCell P1.m.cls kX)
  have hcurW : (S.pushCell (freshCell P1.m.cls kX)).cur = S.cur := rfl
  have hlimW : e.platform.stackLimits (S.pushCell (freshCell P1.m.cls kX)).me = lim := hlim
  have hWW : s₀.WarmedH (S.pushCell (freshCell P1.m.cls kX)).vm := hW
  generalize hS1 : S.pushCell (freshCell P1.m.cls kX) = W at hWat w5 hself hcurW hlimW hWW
  have hmW := hWW.methodAt L1.method
  obtain ⟨hfN, hI, hfI⟩ := nx_in hWat S.heap.size hmW L1.code (hWW.plainAt L1.plain)
  obtain ⟨vm1, hW1, st1⟩ := Steps.invokeInitCold (tb := p.tables) (s₀ := s₀) (U := ((W.setFrames (.thenThrow S.heap.size :: base)).pushFrame (.java (pass0J P1.m S.heap.size 0 [])))) (f := pass0J P1.m S.heap.size 1 [.ref S.heap.size]) (args := []) (rest := []) (a := S.heap.size) hI hx L1.at1 hWW L1.links L1.right L1.notHandle L1.cls L1.file L1.pool
    L1.supClass L1.supMethod L1.supName L1.supStatic L1.supAbstract L1.supFound L1.supParams.symm rfl
  have hI1 : At (((W.setVm vm1).setFrames (.thenThrow S.heap.size :: base)).pushFrame (.java (pass0J P1.m S.heap.size 0 []))) P1.m P1.code below := hI.setVm (hWW.alike.symm.trans hW1.alike)
  have hlimN : e.platform.stackLimits (W.setFrames (.thenThrow S.heap.size :: base)).me = lim := by rw [State.stackLimits_setFrames]; exact hlimW
  have hroom := roomAbove (pl := e.platform) (u := W.setFrames (.thenThrow S.heap.size :: base)) (vars := 1) (pushed := [.thenThrow S.heap.size]) (base := base) (free := 13 * Ps.length + 68) (lim := lim) hfN hlimN
    (by simp only [List.length_cons, List.length_nil]; omega) (by omega) (by rw [stackUse_light _ _ (fun f hf => by cases hf) rfl, stackUse_nil]; show 0 + 1 + 11 ≤ _; omega)
  obtain ⟨-, -, hfI1⟩ := nx_in (hWat.setVm (hWW.alike.symm.trans hW1.alike)) S.heap.size (hW1.methodAt L1.method) L1.code (hW1.plainAt (U := W.setVm vm1) L1.plain)
  have hvm : ∀ w, (((W.setVm vm1).setFrames (.thenThrow S.heap.size :: base)).pushFrame (.java (pass0J P1.m S.heap.size 0 []))).setVm w = (((W.setVm w).setFrames (.thenThrow S.heap.size :: base)).pushFrame (.java (pass0J P1.m S.heap.size 0 []))) := fun w => by rw [State.pushFrame_setVm, State.setFrames_setVm, State.setVm_twice]
  have hs : ∃ vm2, s₀.WarmedH vm2 ∧ ∀ t' : State, Steps p.tables e below ((((((W.setVm vm1).setFrames (.thenThrow S.heap.size :: base)).pushFrame (.java (pass0J P1.m S.heap.size 0 []))).setVm vm2).setCell S.heap.size ((nxC T N (freshCell P1.m.cls kX) S.heap.size u0 sen S.cur).setSlot T.fStack.slot u0.v).left.left).setTop (pass0J P1.m S.heap.size 4 [])) t' →
      Steps p.tables e below (doInvoke e ((((W.setVm vm1).setFrames (.thenThrow S.heap.size :: base)).pushFrame (.java (pass0J P1.m S.heap.size 0 []))).setTop (pass0J P1.m S.heap.size 1 [])) [] (firstOf (Z.m T.toThrowableT) (Ps.map (·.toPassT))) #[.ref S.heap.size]).1 t' := by
    have hXc : (((W.setVm vm1).setFrames (.thenThrow S.heap.size :: base)).pushFrame (.java (pass0J P1.m S.heap.size 0 []))).heap[S.heap.size]? = some (freshCell P1.m.cls kX) := hself
    have hXS : (((W.setVm vm1).setFrames (.thenThrow S.heap.size :: base)).pushFrame (.java (pass0J P1.m S.heap.size 0 []))).heap[T.aS]? = some cellS := w5
    have hXcur : (((W.setVm vm1).setFrames (.thenThrow S.heap.size :: base)).pushFrame (.java (pass0J P1.m S.heap.size 0 []))).cur = S.cur := hcurW
    have hXlim : e.platform.stackLimits (((W.setVm vm1).setFrames (.thenThrow S.heap.size :: base)).pushFrame (.java (pass0J P1.m S.heap.size 0 []))).me = lim := by rw [State.stackLimits_pushFrame, State.stackLimits_setFrames]; exact hlimW
    exact Steps.initNpe0ColdByV p (g := pass0J P1.m S.heap.size 1 []) (c := P1.code) (self := S.heap.size) hI1 hx T L Z LZ N LN hW1 hXcur (Nn := fun u => u) heapOnly_id (fun _ _ => rfl) (fun _ => rfl) (fun u x y => setCell_twice _ _ _ _) (fun _ => Nat.le_refl _) hXc
      (by intro k hk'; cases hk') (by intro hk'; cases hk') rfl hk hsel0 hXS (Nat.ne_of_lt hltS) hknownS hvU hv0 hneC hneSt hneP htS ht1
      (cN := nxC T N (freshCell P1.m.cls kX) S.heap.size u0 sen S.cur) (fun _ hu => hu) (fun _ hu => hu) rfl rfl rfl (by simp [nxC, npeCell, preparedCellV, Cell.setSlot, Cell.withEntry]) hskip hnat hselF hvSen htC htP hobj Ps hL hlink (ig := .invokespecial P1.index) (len := 3) [] hXlim
      (by rw [hfI1]; simp only [List.length_cons]; omega)
      (by rw [hfI1, List.tail_cons, stackUse_java, stackUse_light _ _ (fun f hf => by cases hf) rfl]
          show (stackUse base).2 + (1 + 11 + 2 * 0 + operandWords []) + 13 * Ps.length + 55 ≤ lim.2
          simp only [operandWords, List.foldl_nil]
          omega)
      L1.at1
  obtain ⟨vm2, hW2, st2⟩ := hs
  refine ⟨vm2, hW2, fun target go => ?_⟩
  refine nx_start p h (cX := P1.m.cls) (kX := kX') (i := P1.m.idx) (by rw [hW.alike.findClass]; exact hfound) hk' (by rw [he']; exact hinit) (by rw [he']; exact hord) hhot hbey hfree (by rw [he']; exact hctor) hcells (by rw [hty]; exact hslots) ?_
  rw [hfresh, hS1]
  rw [show (⟨P1.m.cls, P1.m.idx⟩ : MethodId) = P1.m from rfl]
  rw [(doInvoke_java (s := (W.setFrames (.thenThrow S.heap.size :: base))) (e := e) (acts := []) (args := #[.ref S.heap.size]) (meth := P1.meth) (code := P1.code) hmW L1.code L1.locks (by rw [L1.locals]; exact hroom)).1, L1.locals]
  show Steps p.tables e below ((W.setFrames (.thenThrow S.heap.size :: base)).pushFrame (.java (pass0J P1.m S.heap.size 0 []))) target
  rw [← State.setTop_self (s := ((W.setFrames (.thenThrow S.heap.size :: base)).pushFrame (.java (pass0J P1.m S.heap.size 0 [])))) (State.topJava?_of_frames hfI)]
  jvm_step hI [hx, L1.at0, Value.isRef]
  refine st1 target ?_
  rw [hlink1]
  refine st2 target ?_
  rw [hvm]
  refine nx_out p (W := W.setVm vm2) (hWat.setVm (hWW.alike.symm.trans hW2.alike)) hx (K := fun u => u.setCell S.heap.size ((nxC T N (freshCell P1.m.cls kX) S.heap.size u0 sen S.cur).setSlot T.fStack.slot u0.v).left.left) (heapOnly_id.thenSetCell S.heap.size _) S.heap.size (hW2.methodAt L1.method) L1.code (hW2.plainAt (U := W.setVm vm2) L1.plain) L1.locks L1.at4 ?_
  exact go
theorem nx_stand {p : Program} {l : Launch} {e : Env} {R : Room} {s : State} {m : MethodId} {args : Array Value} {below : List Frame} {meth : Method} {c : Code} {W : State} {locs : List Loc} {cells slots : Nat}
    (X : Stand p l e R s m args below meth c W locs cells slots) (hx : p.tables.exec = Jvm.exec) {g : JFrame} (hsize : g.locals.size = c.maxLocals) {nf : NFrame} (hnf : nf.words = 0)
    (T : ThrowableC) (L : T.Links e.platform s) (Z : Init0T) (LZ : Z.Laid T.toThrowableT) (N : NpeC) (LN : N.Links T e.platform s)
    (P1 : PassC) (L1 : P1.Links0 e.platform s) (Ps : List PassC) (hL : ∀ P, P ∈ Ps → P.Links0 e.platform s) (hlink1 : P1.sup = firstOf (Z.m T.toThrowableT) (Ps.map (·.toPassT))) (hlink : PassesOn (Z.m T.toThrowableT) (Ps.map (·.toPassT)))
    {kX : Class} (hfound : s.vm.findClass "java/lang/NullPointerException" = some P1.m.cls) (hk : s.vm.classes[P1.m.cls]? = some kX) (hinit : kX.init = .initialized) (hord : kX.kind = .ordinary) (hctor : kX.findMethod "<init>" "()V" = some P1.m.idx) {u0 sen : RefV} {cellS : Cell}
    (hsel0 : selectMethod e.platform s.vm P1.m.cls T.fill0 = .method T.fill0) (hselF : selectMethod e.platform s.vm P1.m.cls T.fill = .method N.fill)
    (hcellS : W.heap[T.aS]? = some cellS) (hknownS : cellS.vm ≠ .unknown) (hvU : cellS.slots[T.fUnassigned.slot]? = some u0.v) (hvSen : cellS.slots[T.fSentinel.slot]? = some sen.v)
    (hv0 : (freshCell P1.m.cls kX).slots[N.fState.slot]? = some (.int 0)) (hneC : T.fCause.slot ≠ N.fState.slot) (hneSt : T.fStack.slot ≠ N.fState.slot) (hneP : T.fSupp.slot ≠ N.fState.slot)
    (htC : Takes s (freshCell P1.m.cls kX) T.fCause (.ref W.heap.size)) (htS : Takes s (freshCell P1.m.cls kX) T.fStack u0.v) (htP : Takes s (freshCell P1.m.cls kX) T.fSupp sen.v) (ht1 : Takes s (freshCell P1.m.cls kX) N.fState (.int 1)) (hobj : T.codeObj.maxLocals = 1)
    (hskip : SkipFacts T e.platform s (fun u => u) u0 (nxC T N (freshCell P1.m.cls kX) W.heap.size u0 sen W.cur))
    (hnat : u0.v ≠ .null → ∀ u : State, At u T.fill T.codeFill below → s.WarmedH u.vm → u.heap[W.heap.size]? = some (nxC T N (freshCell P1.m.cls kX) W.heap.size u0 sen W.cur) →
      e.platform.stackFull (((u.setTop (fillJ T.fill W.heap.size 16 [])).threads[(u.setTop (fillJ T.fill W.heap.size 16 [])).cur]?).getD { frames := [] }) (u.setTop (fillJ T.fill W.heap.size 16 [])).frames (nativeFrameWords "java/lang/Throwable" "fillInStackTrace" 2) = false → ∀ t' : State,
      Steps p.tables e below (u.setTop (fillJ T.fill W.heap.size 19 [.ref W.heap.size])) t' →
      Steps p.tables e below (doInvoke e (u.setTop (fillJ T.fill W.heap.size 16 [])) [] T.fill0 #[.ref W.heap.size, .int 0]).1 t')
    (hRframes : Ps.length + 6 < R.frames) (hRlocals : 2 * g.monitorRoom + (g.stack.map fun v => v.category).sum + 10240 ≤ R.locals) (hshort : 13 * Ps.length + 68 ≤ 10240) (hRcells : cells + 1 ≤ R.cells) (hRslots : slots + kX.instanceTypes.size ≤ R.slots) :
    ∃ vm', Stand p l e R s m args below meth c (((W.pushCell (freshCell P1.m.cls kX)).setVm vm').setCell W.heap.size (npeBareV T.toThrowableT N.toNpeT (freshCell P1.m.cls kX) W.heap.size u0 sen))
        (locs ++ [⟨W.heap.size, T.fCause.slot⟩, ⟨W.heap.size, T.fStack.slot⟩, ⟨W.heap.size, T.fSupp.slot⟩, ⟨W.heap.size, N.fState.slot⟩, ⟨W.heap.size, T.fStack.slot⟩]) (cells + 1) (slots + (freshCell P1.m.cls kX).slots.size) ∧
      Steps p.tables e below (W.setFrames (.throwNew "java/lang/NullPointerException" none none :: .native nf :: .java g :: below)) ((((W.pushCell (freshCell P1.m.cls kX)).setVm vm').setCell W.heap.size (npeBareV T.toThrowableT N.toNpeT (freshCell P1.m.cls kX) W.heap.size u0 sen)).setFrames (.throwing W.heap.size :: .native nf :: .java g :: below)) := by
  obtain ⟨hbey, hfree⟩ := X.vmMayThrowNative hsize hnf (.throwNew "java/lang/NullPointerException" none none) (fun f hf => by cases hf) rfl hRlocals
  have hfr : (Frame.native nf :: .java g :: below).length + Ps.length + 5 < (e.platform.stackLimits W.me).1 := by have := X.framesAboveNative g nf (n := Ps.length + 5) (by omega); omega
  have hwd : (stackUse (.native nf :: .java g :: below)).2 + 13 * Ps.length + 68 ≤ (e.platform.stackLimits W.me).2 := by have := X.stackAboveNative hsize hnf (K := 13 * Ps.length + 68) (by omega); omega
  obtain ⟨vm', hW', st⟩ := nx_npe p (s₀ := s) (S := W) (X.overNative g nf) hx T L Z LZ N LN X.warmed P1 L1 Ps hL hlink1 hlink hfound hk hinit hord hctor
    (Launch.admits_hotImplicitExceptions X.admits) hbey hfree (X.cellsAbove hRcells) (X.slotsAbove hRslots) hsel0 hcellS hknownS hvU hv0 hneC hneSt hneP htS ht1 hskip hnat hselF hvSen htC htP hobj rfl hfr hwd
  unfold nxC at st
  rw [npeBareV_eq T.toThrowableT N.toNpeT W.heap.size u0 sen W.cur rfl rfl] at st
  have X2 := (X.pushed (freshCell P1.m.cls kX)).noted hW'
  have hsz : ((W.pushCell (freshCell P1.m.cls kX)).setVm vm').heap.size = W.heap.size + 1 := State.heap_size_pushCell _ _
  have ha : W.heap.size < ((W.pushCell (freshCell P1.m.cls kX)).setVm vm').heap.size := by rw [hsz]; omega
  have hcell : ((W.pushCell (freshCell P1.m.cls kX)).setVm vm').heap[W.heap.size]? = some (freshCell P1.m.cls kX) := State.heap_pushCell_size W (freshCell P1.m.cls kX)
  have X3 := ((((X2.stored hcell T.fCause.slot (.ref W.heap.size)).storedAgain ha T.fStack.slot u0.v).storedAgain ha T.fSupp.slot sen.v).storedAgain ha N.fState.slot (.int 1)).storedAgain ha T.fStack.slot u0.v
  simp only [List.append_assoc, List.cons_append, List.nil_append] at X3
  exact ⟨vm', X3, st _ (Steps.refl _)⟩
end NX
theorem vx_natN {p : Program} {l : Launch} {e : Env} {R : Room} {s : State} {m₀ : MethodId} {args : Array Value} {below : List Frame} {meth : Method} {c : Code} {W : State} {locs : List Loc} {cells slots : Nat}
    (X : Stand p l e R s m₀ args below meth c W locs cells slots) (hexec : p.tables.exec = Jvm.exec) (htr : e.platform.stackTraces = false) {n : Nat}
    (h : ∀ a ∈ Bundle.npeArmAtoms n, a.before args s = true)
    (hlocs : ∀ x ∈ locs, ∀ cell, s.heap[x.base]? = some cell → cell.vm.isStatics = false)
    {g : JFrame} (hg : g.method = m₀) (hsize : g.locals.size = c.maxLocals) {nf : NFrame} (hnf : nf.words = 0)
    (hRframes : 8 < R.frames) (hRlocals : 2 * g.monitorRoom + (g.stack.map fun v => v.category).sum + 10240 ≤ R.locals)
    (hRcells : cells + 1 ≤ R.cells) (hRslots : slots + n ≤ R.slots) :
    ∃ (S : State) (q : Addr) (ce : Cell), Steps p.tables e below (W.setFrames (.throwNew "java/lang/NullPointerException" none none :: .native nf :: .java g :: below)) (S.setFrames (.throwing q :: .native nf :: .java g :: below)) ∧
      Stand p l e R s m₀ args below meth c S locs (cells + 1) (slots + n) ∧ S.heap[q]? = some ce ∧ s.vm.findClass "java/lang/NullPointerException" = some ce.cls ∧ ce.vm = .none := by
  have howns : e.platform.frameOwnsMonitors = true := by rw [X.admits.platform]
  have hfin : e.platform.finalization = false := by rw [X.admits.platform]
  have hpl : e.platform.magicAccessors = ({} : Platform).magicAccessors := by rw [X.admits.platform]
  have hpl2 : e.platform.arrayCloneIsPublic = true := by rw [X.admits.platform]
  have a' : ∀ x, x ∈ Bundle.npeArmAtoms n → x.holds args s none s [] = true := fun x hx => h x hx
  obtain ⟨T, Z, L, LZ, Y⟩ := ThrowableC.of_atoms (args := args) howns hfin hpl (fun x hx => h x (by simp [Bundle.npeArmAtoms, hx]))
  obtain ⟨N, LN, hcN, hnNF, hordN, hffS⟩ := NpeC.of_atoms (args := args) hpl hpl2 L Y (fun x hx => h x (by simp [Bundle.npeArmAtoms, hx]))
  obtain ⟨P1, L1, hP1m, hP1s⟩ := PassC.of_atoms (args := args) (s := s) hpl (X := Bundle.nN) (Y := Bundle.rN) (by decide) (by decide) LibCode.NullPointerException.Init0.at_0 LibCode.NullPointerException.Init0.at_1 LibCode.NullPointerException.Init0.at_4 (fun x hx => h x (by simp [Bundle.npeArmAtoms, hx]))
  obtain ⟨PR, LR, hPRm, hPRs⟩ := PassC.of_atoms (args := args) (s := s) hpl (X := Bundle.rN) (Y := Bundle.eN) (by decide) (by decide) LibCode.RuntimeException.Init0.at_0 LibCode.RuntimeException.Init0.at_1 LibCode.RuntimeException.Init0.at_4 (fun x hx => h x (by simp [Bundle.npeArmAtoms, hx]))
  obtain ⟨PE, LEx, hPEm, hPEs⟩ := PassC.of_atoms (args := args) (s := s) hpl (X := Bundle.eN) (Y := Bundle.tN) (by decide) (by decide) LibCode.Exception.Init0.at_0 LibCode.Exception.Init0.at_1 LibCode.Exception.Init0.at_4 (fun x hx => h x (by simp [Bundle.npeArmAtoms, hx]))
  have hfound : s.vm.findClass Bundle.nN = some P1.m.cls := findClass_of_methodNamed hP1m
  have ecls : N.cN = P1.m.cls := Option.some.inj (hcN.symm.trans hfound)
  have hk : s.vm.classes[P1.m.cls]? = some N.kN := by rw [← ecls]; exact LN.cls
  have hinit := Cond.initialized_spec hfound hk (a' (.initialized Bundle.nN) (by simp [Bundle.npeArmAtoms]))
  have hctor : N.kN.findMethod "<init>" "()V" = some P1.m.idx := findMethod_of_methodNamed hP1m hk
  obtain ⟨c1, k1, hc1, hk1, -, -, -, hn⟩ := Cond.instantiable_spec (a' (.instantiable Bundle.nN n) (by simp [Bundle.npeArmAtoms]))
  cases Option.some.inj (hc1.symm.trans hfound)
  cases Option.some.inj (hk1.symm.trans hk)
  have hfsz : (freshCell P1.m.cls N.kN).slots.size = n := by simp [hn]
  have hlink1 : P1.sup = PR.m := Option.some.inj (hP1s.symm.trans hPRm)
  have hlinkR : PR.sup = PE.m := Option.some.inj (hPRs.symm.trans hPEm)
  have hlinkE : PE.sup = Z.m T.toThrowableT := Option.some.inj (hPEs.symm.trans Y.init0)
  have hLs : ∀ P, P ∈ [PR, PE] → P.Links0 e.platform s := fun P hP => by
    simp only [List.mem_cons, List.not_mem_nil, or_false] at hP
    rcases hP with rfl | rfl
    · exact LR
    · exact LEx
  have hsel0 : selectMethod e.platform s.vm P1.m.cls T.fill0 = .method T.fill0 := by
    obtain ⟨c2, r2, m2, q1, q2, q3, q4, -⟩ := Cond.selects_spec (a' (.selects Bundle.nN Bundle.tFill0 Bundle.tFill0) (by simp [Bundle.npeArmAtoms]))
    cases Option.some.inj (q1.symm.trans hfound)
    cases Option.some.inj (q2.symm.trans (State.methodFound?_of_named Y.fill0 (by decide)))
    cases Option.some.inj (q3.symm.trans Y.fill0)
    rw [Launch.admits_selectMethod X.admits]; exact q4
  have hselF : selectMethod e.platform s.vm P1.m.cls T.fill = .method N.fill := by
    obtain ⟨c2, r2, m2, q1, q2, q3, q4, -⟩ := Cond.selects_spec (a' (.selects Bundle.nN Bundle.tFill Bundle.nFill) (by simp [Bundle.npeArmAtoms]))
    cases Option.some.inj (q1.symm.trans hfound)
    cases Option.some.inj (q2.symm.trans (State.methodFound?_of_named Y.fill (by decide)))
    cases Option.some.inj (q3.symm.trans hnNF)
    rw [Launch.admits_selectMethod X.admits]; exact q4
  obtain ⟨cellS0, hcS0, hiss⟩ := Y.statics
  obtain ⟨u0, hu0⟩ := Cond.staticRefV Y.unassigned L.unassignedStatic L.statics hcS0 hiss (a' (.isRef (.static Bundle.tN "UNASSIGNED_STACK" Bundle.steD)) (by simp [Bundle.npeArmAtoms]))
  obtain ⟨sen, hsen⟩ := Cond.staticRefV Y.sentinel L.sentinelStatic L.statics hcS0 hiss (a' (.isRef (.static Bundle.tN "SUPPRESSED_SENTINEL" Bundle.listD)) (by simp [Bundle.npeArmAtoms]))
  obtain ⟨ci198, i198, fB, hk198, hg198, ha198, hsB, -, hnB, htB, hffB⟩ := Cond.ownField (t := .object "java/lang/Object") Y.found L.cls (by decide +kernel) (a' (.fieldLink Bundle.tN 198 Bundle.tN "backtrace" Bundle.objD) (by simp [Bundle.npeArmAtoms])) (a' (.lays Bundle.tN Bundle.tN "backtrace" Bundle.objD) (by simp [Bundle.npeArmAtoms])) e.platform hpl
  obtain ⟨cellS, hcS', heS, -, hkeep⟩ := X.same.2.2.2.2.2 T.aS cellS0 hcS0
  have hcellS : W.heap[T.aS]? = some cellS := hcS'
  have hout' : ∀ i, (⟨T.aS, i⟩ : Loc) ∉ locs := fun i hmem => by
    have := hlocs _ hmem cellS0 hcS0
    rw [hiss] at this; cases this
  have hknownS : cellS.vm ≠ .unknown := by
    rw [heS]; intro hu
    rw [show cellS0.vm = .unknown from hu] at hiss
    cases hiss
  have hvU : cellS.slots[T.fUnassigned.slot]? = some u0.v := by rw [hkeep _ (hout' _)]; exact hu0
  have hvSen : cellS.slots[T.fSentinel.slot]? = some sen.v := by rw [hkeep _ (hout' _)]; exact hsen
  obtain ⟨tyC, dC, hdC, hdnC⟩ := Cond.laysAt hfound hk Y.cause (a' (.lays Bundle.nN Bundle.tN "cause" "Ljava/lang/Throwable;") (by simp [Bundle.npeArmAtoms]))
  obtain ⟨tyS, dS, hdS, hdnS⟩ := Cond.laysAt hfound hk Y.stack (a' (.lays Bundle.nN Bundle.tN "stackTrace" Bundle.steD) (by simp [Bundle.npeArmAtoms]))
  obtain ⟨tyP, dP, hdP, hdnP⟩ := Cond.laysAt hfound hk Y.supp (a' (.lays Bundle.nN Bundle.tN "suppressedExceptions" Bundle.listD) (by simp [Bundle.npeArmAtoms]))
  obtain ⟨tyX, dX, hdX, hdnX⟩ := Cond.laysAt hfound hk hffS (a' (.lays Bundle.nN Bundle.nN "extendedMessageState" "I") (by simp [Bundle.npeArmAtoms, Bundle.npeAtoms]))
  obtain ⟨hnX, htX⟩ := State.fieldFound?_type hffS (t := .int) (by decide +kernel)
  have xC := Cond.laysApart hdC hdX hdnC hdnX (by rw [hnX, Y.causeName]; decide)
  have xS := Cond.laysApart hdS hdX hdnS hdnX (by rw [hnX, Y.stackName]; decide)
  have xP := Cond.laysApart hdP hdX hdnP hdnX (by rw [hnX, Y.suppName]; decide)
  have hv0 : (freshCell P1.m.cls N.kN).slots[N.fState.slot]? = some (.int 0) := by
    have := fresh_default (c := P1.m.cls) tyX
    rw [htX] at this; exact this
  obtain ⟨tyB, dB, hdB, hdnB⟩ := Cond.laysAt hfound hk hffB (a' (.lays Bundle.nN Bundle.tN "backtrace" Bundle.objD) (by simp [Bundle.npeArmAtoms]))
  have bC := Cond.laysApart hdB hdC hdnB hdnC (by rw [hnB, Y.causeName]; decide)
  have bS := Cond.laysApart hdB hdS hdnB hdnS (by rw [hnB, Y.stackName]; decide)
  have bP := Cond.laysApart hdB hdP hdnB hdnP (by rw [hnB, Y.suppName]; decide)
  have bX := Cond.laysApart hdB hdX hdnB hdnX (by rw [hnB, hnX]; decide)
  have hbk : ((npeCell N.toNpeT (preparedCellV T.toThrowableT (freshCell P1.m.cls N.kN) W.heap.size u0 sen) W.cur).withEntry W.cur).slots[fB.slot]? = some .null := by
    have := fresh_default (c := P1.m.cls) tyB
    rw [htB] at this
    simpa [npeCell, preparedCellV, Cell.setSlot, Cell.withEntry, Array.getElem?_setIfInBounds, bC, bS, bP, bX, bC.symm, bS.symm, bP.symm, bX.symm, defaultValue] using this
  have tkC := Takes.of_laid (v := .ref W.heap.size) hk hordN tyC (by rw [Y.causeType]; rfl)
  have tkS := Takes.of_laid (v := u0.v) hk hordN tyS (by rw [Y.stackType]; exact fits_refV_array _ u0)
  have tkP := Takes.of_laid (v := sen.v) hk hordN tyP (by rw [Y.suppType]; exact fits_refV_object _ sen)
  have tkX := Takes.of_laid (v := .int 1) hk hordN tyX (by rw [htX]; rfl)
  have hskip : SkipFacts T e.platform s (fun u => u) u0 ((npeCell N.toNpeT (preparedCellV T.toThrowableT (freshCell P1.m.cls N.kN) W.heap.size u0 sen) W.cur).withEntry W.cur) := ⟨{ ci198 := ci198, i198 := i198, fBack := fB }, ⟨hk198, hg198, ha198, hsB⟩, hbk, fun _ _ => rfl⟩
  obtain ⟨vm', X3, st⟩ := nx_stand X hexec hsize hnf T L Z LZ N LN P1 L1 [PR, PE] hLs hlink1 ⟨hlinkR, hlinkE, trivial⟩ hfound hk hinit hordN hctor hsel0 hselF hcellS hknownS hvU hvSen
    hv0 xC xS xP tkC tkS tkP tkX Y.objLocals hskip (fun _ u hA hW _ hroom t' hrest => L.nativeOff p htr hA hW hroom hrest) (by simpa using hRframes) hRlocals (by simp) hRcells (by rw [hn]; exact hRslots)
  have hlt : W.heap.size < ((W.pushCell (freshCell P1.m.cls N.kN)).setVm vm').heap.size := by
    show W.heap.size < (W.pushCell (freshCell P1.m.cls N.kN)).heap.size
    rw [State.heap_size_pushCell]; omega
  rw [hfsz] at X3
  refine ⟨_, W.heap.size, _, st, X3.forget (fun y hy => ?_), heapAt_setCell_self _ hlt, hfound, rfl⟩
  simp only [List.mem_cons, List.not_mem_nil, or_false] at hy
  have hge : s.heap.size ≤ W.heap.size := X.same.2.1
  rcases hy with rfl | rfl | rfl | rfl | rfl <;> exact hge
