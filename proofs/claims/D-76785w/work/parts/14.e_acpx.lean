/-! System.arraycopy that throws, at the cells (rows of our own: the kit has none) -/
set_option maxRecDepth 100000
set_option maxHeartbeats 4000000
set_option linter.unusedVariables false
section
variable {p : Program} {l : Launch} {e : Env} {R : Room} {s : State} {m : MethodId} {args : Array Value} {below : List Frame} {meth : Method} {c : Code} {H : Heap} {locs : List Loc} {cells slots : Nat}
/-- what a thrower leaves, a native's frame between -/
def acThr (p : Program) (l : Launch) (e : Env) (R : Room) (s : State) (m : MethodId) (args : Array Value) (below : List Frame) (meth : Method) (c : Code) (H : Heap) (locs : List Loc) (cells slots c2 n2 : Nat) (g : JFrame) (cls : String) (msg : Option String) : Prop :=
  ∀ (U : State) (nf : NFrame), Stand p l e R s m args below meth c U locs cells slots → U.heap = H → nf.words = 0 → ∃ (S : State) (q : Addr) (ce : Cell), Steps p.tables e below (U.setFrames (.throwNew cls msg none :: .native nf :: .java g :: below)) (S.setFrames (.throwing q :: .native nf :: .java g :: below)) ∧
    Stand p l e R s m args below meth c S locs c2 n2 ∧ H.size ≤ S.heap.size ∧ (∀ q : Nat, q < H.size → S.heap[q]? = H[q]?) ∧ S.heap[q]? = some ce ∧ ce.vm = .none ∧ s.vm.findClass cls = some ce.cls
theorem acThrM (hexec : p.tables.exec = Jvm.exec) (hl : l.stackTraces = false) {cls text : String} {names : List String} {nb : Nat} {A : Nat → Prop} {g : JFrame}
    (hcls : Bundle.fit cls = true) (hnames : ∀ n ∈ names, Bundle.fit n = true) (hsoe : (cls == "java/lang/StackOverflowError") = false) (hoom : (cls == "java/lang/OutOfMemoryError") = false)
    (hat : ∀ w ∈ vx_atM cls names, w.before args s = true) (hgood : ∀ w ∈ vx_atM cls names, vx_ot w = true)
    (hU : vx_Zq Bundle.tN "UNASSIGNED_STACK" Bundle.steD A s s.heap) (hN : vx_Zq Bundle.tN "SUPPRESSED_SENTINEL" Bundle.listD A s s.heap) (hS : va_S A s.heap H locs) (hg : g.method = m) (hsize : g.locals.size = c.maxLocals)
    (htext : (text == notModelled) = false) (hnb : (stringBytes (stringToUtf16 text)).size ≤ nb) (hnb1 : nb ≤ 1000)
    (hRframes : names.length + 5 < R.frames) (hRlocals : 2 * g.monitorRoom + (g.stack.map fun v => v.category).sum + 10240 ≤ R.locals) (hshort : 13 * names.length + 55 ≤ 10240) (hRcells : cells + 3 ≤ R.cells) (hRslots : slots + (nb + 10) ≤ R.slots) :
    acThr p l e R s m args below meth c H locs cells slots (cells + 3) (slots + (nb + 10)) g cls (some text) := by
  intro T nf X hT hnf
  have htr : e.platform.stackTraces = false := (show e.platform.stackTraces = l.stackTraces by rw [X.admits.platform]).trans hl
  have Y := vx_rebase X (R' := { frames := R.frames, locals := R.locals, cells := 3, slots := nb + 10 }) (Nat.le_refl _) (Nat.le_refl _) hRcells hRslots
  have hhp : ((T.setVm s.vm).setFrames (.invoking m args :: below)).heap = H := hT
  have hW0 : s.WarmedH ((T.setVm s.vm).setFrames (.invoking m args :: below)).vm := State.WarmedH.refl s
  have hat' : ∀ w ∈ vx_atM cls names, w.before args ((T.setVm s.vm).setFrames (.invoking m args :: below)) = true := fun w hw => vx_ot_at hW0 rfl (hgood w hw) (hat w hw)
  have hU' : vx_Zq Bundle.tN "UNASSIGNED_STACK" Bundle.steD A ((T.setVm s.vm).setFrames (.invoking m args :: below)) ((T.setVm s.vm).setFrames (.invoking m args :: below)).heap := by rw [hhp]; exact vx_Zq.moved hW0.alike (hU.kept hS.2.1)
  have hN' : vx_Zq Bundle.tN "SUPPRESSED_SENTINEL" Bundle.listD A ((T.setVm s.vm).setFrames (.invoking m args :: below)) ((T.setVm s.vm).setFrames (.invoking m args :: below)).heap := by rw [hhp]; exact vx_Zq.moved hW0.alike (hN.kept hS.2.1)
  obtain ⟨S, q, ce, st, Z, hce, hcl', hv⟩ := vx_natAt Y hexec htr (cls := cls) (names := names) (text := text) hcls hnames hsoe hoom (vx_own hat' (vx_isRefq hU'.1) (vx_isRefq hN'.1) hU'.2.word hN'.2.word) (fun x hx => nomatch hx) htext
    (by rw [Launch.admits_arrayLengthLimit X.admits]; omega) (by rw [Launch.admits_maxHeapBytes X.admits]; simp only [componentBytes]; omega)
    (g := g) hg hsize (nf := nf) hnf hRframes hRlocals hshort (by show 0 + 3 ≤ 3; omega) (by show 0 + (_ + 4 + 6) ≤ nb + 10; omega)
  obtain ⟨f1, f2⟩ := vx_frame Z.same
  have f1' : H.size ≤ S.heap.size := by rw [← hT]; exact f1
  have f2' : ∀ q : Nat, q < H.size → S.heap[q]? = H[q]? := fun q hq => by
    rw [← hT]
    exact f2 q (by rw [← hT] at hq; exact hq) (fun z hz => nomatch hz)
  have X5 := vx_back9 X Y Z
  have X6 : Stand p l e R s m args below meth c S locs (cells + 3) (slots + (nb + 10)) := { X5 with same := X5.same.mono (by omega) (by omega) }
  exact ⟨S, q, ce, st, X6, f1', f2', hce, hv, hcl'⟩
theorem acThrN (hexec : p.tables.exec = Jvm.exec) (hl : l.stackTraces = false) {nb : Nat} {A : Nat → Prop} {g : JFrame}
    (hat : ∀ w ∈ vx_atN nb, w.before args s = true) (hgood : ∀ w ∈ vx_atN nb, vx_ot w = true)
    (hU : vx_Zq Bundle.tN "UNASSIGNED_STACK" Bundle.steD A s s.heap) (hN : vx_Zq Bundle.tN "SUPPRESSED_SENTINEL" Bundle.listD A s s.heap) (hS : va_S A s.heap H locs) (hg : g.method = m) (hsize : g.locals.size = c.maxLocals)
    (hRframes : 8 < R.frames) (hRlocals : 2 * g.monitorRoom + (g.stack.map fun v => v.category).sum + 10240 ≤ R.locals) (hRcells : cells + 1 ≤ R.cells) (hRslots : slots + nb ≤ R.slots) :
    acThr p l e R s m args below meth c H locs cells slots (cells + 1) (slots + nb) g "java/lang/NullPointerException" none := by
  intro T nf X hT hnf
  have htr : e.platform.stackTraces = false := (show e.platform.stackTraces = l.stackTraces by rw [X.admits.platform]).trans hl
  have Y := vx_rebase X (R' := { frames := R.frames, locals := R.locals, cells := 1, slots := nb }) (Nat.le_refl _) (Nat.le_refl _) hRcells hRslots
  have hhp : ((T.setVm s.vm).setFrames (.invoking m args :: below)).heap = H := hT
  have hW0 : s.WarmedH ((T.setVm s.vm).setFrames (.invoking m args :: below)).vm := State.WarmedH.refl s
  have hat' : ∀ w ∈ vx_atN nb, w.before args ((T.setVm s.vm).setFrames (.invoking m args :: below)) = true := fun w hw => vx_ot_at hW0 rfl (hgood w hw) (hat w hw)
  have hU' : vx_Zq Bundle.tN "UNASSIGNED_STACK" Bundle.steD A ((T.setVm s.vm).setFrames (.invoking m args :: below)) ((T.setVm s.vm).setFrames (.invoking m args :: below)).heap := by rw [hhp]; exact vx_Zq.moved hW0.alike (hU.kept hS.2.1)
  have hN' : vx_Zq Bundle.tN "SUPPRESSED_SENTINEL" Bundle.listD A ((T.setVm s.vm).setFrames (.invoking m args :: below)) ((T.setVm s.vm).setFrames (.invoking m args :: below)).heap := by rw [hhp]; exact vx_Zq.moved hW0.alike (hN.kept hS.2.1)
  obtain ⟨S, q, ce, st, Z, hce, hcl', hv⟩ := vx_natN Y hexec htr (n := nb) (vx_own hat' (vx_isRefq hU'.1) (vx_isRefq hN'.1) hU'.2.word hN'.2.word) (fun x hx => nomatch hx)
    (g := g) hg hsize (nf := nf) hnf hRframes hRlocals (by show 0 + 1 ≤ 1; omega) (by show 0 + nb ≤ nb; omega)
  obtain ⟨f1, f2⟩ := vx_frame Z.same
  have f1' : H.size ≤ S.heap.size := by rw [← hT]; exact f1
  have f2' : ∀ q : Nat, q < H.size → S.heap[q]? = H[q]? := fun q hq => by
    rw [← hT]
    exact f2 q (by rw [← hT] at hq; exact hq) (fun z hz => nomatch hz)
  have X5 := vx_back9 X Y Z
  have X6 : Stand p l e R s m args below meth c S locs (cells + 1) (slots + nb) := { X5 with same := X5.same.mono (by omega) (by omega) }
  exact ⟨S, q, ce, st, X6, f1', f2', hce, hv, hcl'⟩
/-- a call of System.arraycopy that throws -/
theorem vx_natRow {cc : ByteArray} {pc : Nat} {ls : Array Slot} {rest : List Value} {Q : State → Prop} {own cls : String} {msg : Option String} {index c2 n2 : Nat} {vs vd : Value} {sp dp n : Int32} (hexec : p.tables.exec = Jvm.exec) (hb : c.code = cc) (hml : c.maxLocals = ls.size) (hown : s.vm.findClass own = some m.cls)
    (hts : ∀ w ∈ lw_all, w.before args s = true) (hlink : Cond.methodLink own index acN ∈ lw_all) (hnat : Cond.native acN ∈ lw_all) (hstat : Cond.static acN ∈ lw_all) (hini : Cond.initialized "java/lang/System" ∈ lw_all) (hvs : vs.isRef = true) (hvd : vd.isRef = true)
    (hfr : 1 ≤ R.frames) (hlo : (rest.map fun v => v.category).sum + 40 ≤ R.locals) (hdg : decode cc pc = .ok (.invokestatic index, 3))
    (hwp : ∀ (U : State) (fs : List Frame) (EE : CtlPost), U.heap = H → s.vm.Alike U.vm → (∀ acts', EE (.throwNew cls msg) acts' (U.setFrames fs)) → wp (Native.java_lang_System.arraycopy.sem #[vs, .int sp, vd, .int dp, .int n]) (fun _ _ _ _ => False) EE e false [] (U.setFrames fs))
    (hthr : acThr p l e R s m args below meth c H locs cells slots c2 n2 (F0 m pc ls rest) cls msg)
    (kk : ∀ (H1 : Heap) (q9 : Addr) (ce : Cell), H.size ≤ H1.size → (∀ q : Nat, q < H.size → H1[q]? = H[q]?) → H1[q9]? = some ce → ce.vm = .none → s.vm.findClass cls = some ce.cls → vx_W p l e R s m args below meth c H1 locs c2 n2 Q (F0 m pc ls rest) q9) :
    W p l e R s m args below meth c H locs cells slots Q (F0 m pc ls (.int n :: .int dp :: vd :: .int sp :: vs :: rest)) := by
  intro T hT X
  obtain ⟨r, kS, methS, hnS, hmS, hkS, N⟩ := NativeOf.of_static (hts _ hnat) (hts _ hstat) (ps := [.object "java/lang/Object", .int, .object "java/lang/Object", .int, .int]) (ret := none) (by decide +kernel)
  have hinitS : kS.init = .initialized := Cond.initialized_spec (findClass_of_methodNamed hnS) hkS (hts _ hini)
  obtain ⟨vm', X', step⟩ := X.invokestatic hexec hown (hts _ hlink) hnS hmS N.static hkS hinitS (by decide) (g := F0 m pc ls (.int n :: .int dp :: vd :: .int sp :: vs :: rest)) rfl (argsL := [vs, .int sp, vd, .int dp, .int n]) (rest := rest) (by rw [N.sig]; rfl) rfl (by rw [hb]; exact hdg)
  obtain ⟨kS', N'⟩ := N.alike X'.warmed.alike
  have hseen : seenByNative methS #[vs, .int sp, vd, .int dp, .int n] = #[vs, .int sp, vd, .int dp, .int n] := by
    cases vs <;> cases hvs <;> cases vd <;> cases hvd <;> simp [seenByNative, N.static, N.sig, narrow]
  obtain ⟨S, q, ce, hst, Z, h1, h2, h3, h4, h5⟩ := hthr (T.setVm vm') { method := r, args := #[vs, .int sp, vd, .int dp, .int n], locked := none } X' hT rfl
  obtain ⟨t, a1, b1⟩ := kk S.heap q ce h1 h2 h3 h4 h5 S rfl Z
  refine ⟨t, step t fun acts => ?_, b1⟩
  obtain ⟨g₀, hfr0⟩ := X'.frames_eq
  obtain ⟨g₁, hfrB⟩ := Z.frames_eq
  have hU : ((T.setVm vm').setTop (F0 m pc ls rest)).pushFrame (.native { method := r, args := seenByNative methS #[vs, .int sp, vd, .int dp, .int n], locked := none }) = (T.setVm vm').setFrames (.native { method := r, args := seenByNative methS #[vs, .int sp, vd, .int dp, .int n], locked := none } :: .java (F0 m pc ls rest) :: below) := by
    rw [State.pushFrame, State.frames_setTop _ hfr0, State.setTop_of_frames _ hfr0, State.setFrames_setFrames]
  have hcurT : (T.setVm vm').cur < (T.setVm vm').threads.size := State.cur_lt_of_frames hfr0
  have hw9 : operandWords [vs, .int sp, vd, .int dp, .int n] = 5 := by
    cases vs <;> cases hvs <;> cases vd <;> cases hvd <;> rfl
  refine Steps.nativeThrowsNote (row := arraycopyRow) (cls := cls) (msg := msg) (T := id) (g := F0 m pc ls rest) X'.here acts N'.cls N'.meth N'.boot N'.native N'.noCode N'.noLock
    (by rw [N'.className, N'.name, N'.desc]; exact arraycopy_row p)
    (by rw [N'.className, N'.name, hw9]; exact X'.notFull hml.symm hfr (by have : nativeFrameWords acN.cls acN.name 5 ≤ 20 := (by decide); show 2 * 0 + (rest.map fun v => v.category).sum + _ ≤ _; omega)) ?_ ?_
  · intro E hE
    rw [hU] at hE ⊢
    rw [hseen] at hE ⊢
    rw [arraycopyRow_sem]
    exact hwp (T.setVm vm') _ E hT X'.warmed.alike hE
  · rw [id_eq, hU, hseen, State.pushFrame, State.frames_setFrames _ hcurT, State.setFrames_setFrames]
    refine hst.trans ?_
    refine Steps.throwingLeavesNative ⟨Z.here.running, Z.here.runnable, Z.here.alone⟩ (State.cur_lt_of_frames hfrB) ⟨[.java (F0 m pc ls rest)], rfl⟩ rfl rfl ?_
    have hV : (S.setTop (F0 m pc ls rest)).pushFrame (.throwing q) = S.setFrames (.throwing q :: .java (F0 m pc ls rest) :: below) := by
      rw [State.pushFrame, State.frames_setTop _ hfrB, State.setTop_of_frames _ hfrB, State.setFrames_setFrames]
    rw [← hV]
    exact a1
end
