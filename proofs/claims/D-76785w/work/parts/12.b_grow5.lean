/-! ROWS of the JDK's own methods, second: private methods of an abstract class, clone, the Integer cache, texts that may be constants -/
set_option maxRecDepth 100000
set_option maxHeartbeats 4000000
/-- a private method of a class above is the one selected -/
theorem selPriv {y z : MethodName} {C : String} {s : State} {args : Array Value} {n : Nat} (hy : y.cls ≠ "java/lang/invoke/MethodHandle" ∧ y.cls ≠ "java/lang/invoke/VarHandle") (hins : (Cond.instantiable C n).before args s = true) (hpriv : (Cond.privateMethod y).before args s = true) (hinst : (Cond.instanceMethod y).before args s = true) (hz : z.cls = y.cls) (hsel : (Cond.selects C z z).before args s = true) : (Cond.selects C y y).before args s = true := by
  obtain ⟨c, k, hc, hk, -, -, -, -⟩ := Cond.instantiable_spec hins
  obtain ⟨mk, methM, hnamed, hmethM, -, -⟩ := Cond.instanceMethod_spec hinst
  have hfound : s.methodFound? y.cls y.name y.desc = some mk := State.methodFound?_of_named hnamed hy
  have hsel2 : selectMethod {} s.vm c mk = .method mk := selectMethod_private hmethM (Cond.privateMethod_at hpriv mk methM hnamed hmethM)
  obtain ⟨c2, r2, m2, -, -, h3, -, kz, hkz, hni⟩ := Cond.selects_spec hsel
  have e1 := findClass_of_methodNamed hnamed
  have e2 := findClass_of_methodNamed h3
  rw [hz] at e2
  have hcc : m2.cls = mk.cls := Option.some.inj (e2.symm.trans e1)
  rw [hcc] at hkz
  simp only [Cond.before, Cond.holds, Cond.value, hc, hfound, hnamed, hsel2, hkz]
  simp; exact hni
section
variable {p : Program} {l : Launch} {e : Env} {s : State} {m : MethodId} {args : Array Value} {below : List Frame} {meth : Method} {c : Code} {G : gG} {Rp : gM → gM → Nat → Prop} {R : Room} {H : Heap} {locs : List Loc} {Q : State → Prop} {cc : ByteArray} {ls : Array Slot} {rest : List Value} {pc : Nat} {kc ks : Nat}
theorem cwP {own C : String} {index maxL mc ms : Nat} {y : MethodName} {bytes : ByteArray} {ret : Option FieldType} {Ts ws ws' : List Cond} {rm : Room} (n : Nat) (ht : ∀ w ∈ Ts, w.before args s = true) (hG : GoodIn Ts ws) (hw : ws = Cond.code y bytes maxL ret :: ws') (hrc : rm.cells = mc) (hrs : rm.slots = ms) (hl : (Cond.methodLink own index y).before args s = true) (hin : (Cond.instanceMethod y).before args s = true) (hini : (Cond.initialized y.cls).before args s = true) (hsel : (Cond.selects C y y).before args s = true)
    (hd : y.cls ≠ "java/lang/invoke/MethodHandle" ∧ y.cls ≠ "java/lang/invoke/VarHandle" ∧ (parseMethodDescriptor y.desc).map (fun d => d.parameters.length) = some n) (hR : rm.frames + 1 ≤ R.frames ∧ 8 + (maxL + 11) + rm.locals ≤ R.locals) :
    CallW R s args own C index y bytes maxL ret ws rm mc ms n :=
  ⟨callB_of n ht hG hw hrc hrs hini hl hd hR, hin, hsel⟩
theorem g_callVC {y : MethodName} {own nm C : String} {bytes : ByteArray} {maxL nL fr lo fr' lo' n index C9 N mc ms b : Nat} {o : Option Nat} {ret ret' : Option FieldType} {As st0 st1 : List Value} {v : Option Value} {S S2 : gS} (hc : gC p s m args meth c G own nm cc nL ret') (hM : gMet l y bytes maxL ret fr' lo' G Rp (.ref b :: As) S v S2 C9 N) (cw : CallW (gR fr lo mc ms) s args own C index y bytes maxL ret (ws_ y bytes maxL ret) (gR fr' lo' C9 N) C9 N n) (hrc : ∃ cell : Cell, H[b]? = some cell ∧ cell.vm.isStatics = false ∧ s.vm.findClass C = some cell.cls) (eo : o = some b) (hn : As.length = n) (hsize : ls.size = nL) (hst0 : st0 = As.reverse ++ va_rf o :: rest) (hst : v.toList ++ rest = st1) (hW : 2 * (F0 m pc ls st0).monitorRoom + (rest.map fun v => v.category).sum ≤ 8) (hdg : decode cc pc = .ok (.invokevirtual index, 3)) (hH : hp G Rp S H) (hS : va_S G.2.2.2 s.heap H locs) (hkc : kc + C9 ≤ mc) (hks : ks + N ≤ ms)
    (kk : ∀ (H1 : Heap) (locs1 : List Loc), hp G Rp S2 H1 → va_S G.2.2.2 s.heap H1 locs1 → W p l e (gR fr lo mc ms) s m args below meth c H1 locs1 (kc + C9) (ks + N) Q (F0 m (pc + 3) ls st1)) : W p l e (gR fr lo mc ms) s m args below meth c H locs kc ks Q (F0 m pc ls st0) := by
  subst eo
  obtain ⟨hx, hb, hr, hlk, hml, hown, hts, hE, hA, hnm⟩ := hc
  exact g_call (va_runV (As := As) (rest := rest) ⟨hx, hb, hml, hown, hts⟩ hM cw ⟨g_blind, hrc, g_pre hE hA hH hS⟩ rfl hn hsize hst0 hW hdg ⟨hkc, hks⟩) hS hst kk
/-- statics -/
theorem g_emptyQ {own : String} {index : Nat} (hx : p.tables.exec = Jvm.exec) (hb : c.code = cc) (hE : gE G s s.heap) (hS : va_S G.2.2.2 s.heap H locs) (hown : s.vm.findClass own = some m.cls) (hlink : (Cond.fieldLink own index "java/util/ArrayList" "DEFAULTCAPACITY_EMPTY_ELEMENTDATA" "[Ljava/lang/Object;").before args s = true) (hdg : decode cc pc = .ok (.getstatic index, 3))
    (kk : W p l e R s m args below meth c H locs kc ks Q (F0 m (pc + 3) ls (.ref (G.2.2.1 1) :: rest))) : W p l e R s m args below meth c H locs kc ks Q (F0 m pc ls rest) := va_gets hx hb hE.2.2.2.2.2.1.1 hS hown hlink (fun _ h9 => h9) hdg kk
theorem g_compact {own : String} {index : Nat} (hx : p.tables.exec = Jvm.exec) (hb : c.code = cc) (hE : gE G s s.heap) (hS : va_S G.2.2.2 s.heap H locs) (hown : s.vm.findClass own = some m.cls) (hlink : (Cond.fieldLink own index "java/lang/String" "COMPACT_STRINGS" "Z").before args s = true) (hdg : decode cc pc = .ok (.getstatic index, 3))
    (kk : W p l e R s m args below meth c H locs kc ks Q (F0 m (pc + 3) ls (.int (nI 1) :: rest))) : W p l e R s m args below meth c H locs kc ks Q (F0 m pc ls rest) := va_gets hx hb hE.2.2.2.2.2.2.2.1 hS hown hlink (fun _ h9 => h9) hdg kk
theorem g_high {own : String} {index : Nat} (hx : p.tables.exec = Jvm.exec) (hb : c.code = cc) (hE : gE G s s.heap) (hS : va_S G.2.2.2 s.heap H locs) (hown : s.vm.findClass own = some m.cls) (hlink : (Cond.fieldLink own index "java/lang/Integer$IntegerCache" "high" "I").before args s = true) (hdg : decode cc pc = .ok (.getstatic index, 3))
    (kk : W p l e R s m args below meth c H locs kc ks Q (F0 m (pc + 3) ls (.int (nI 127) :: rest))) : W p l e R s m args below meth c H locs kc ks Q (F0 m pc ls rest) := va_gets hx hb hE.2.2.2.2.2.2.1.1 hS hown hlink (fun _ h9 => h9) hdg kk
theorem g_cacheA {own : String} {index : Nat} (hx : p.tables.exec = Jvm.exec) (hb : c.code = cc) (hE : gE G s s.heap) (hS : va_S G.2.2.2 s.heap H locs) (hown : s.vm.findClass own = some m.cls) (hlink : (Cond.fieldLink own index "java/lang/Integer$IntegerCache" "cache" "[Ljava/lang/Integer;").before args s = true) (hdg : decode cc pc = .ok (.getstatic index, 3))
    (kk : W p l e R s m args below meth c H locs kc ks Q (F0 m (pc + 3) ls (.ref (G.2.2.1 2) :: rest))) : W p l e R s m args below meth c H locs kc ks Q (F0 m pc ls rest) := va_gets hx hb hE.2.2.2.2.2.2.1.2.1 hS hown hlink (fun _ h9 => h9) hdg kk
theorem g_sioobe {own : String} {index : Nat} (hx : p.tables.exec = Jvm.exec) (hb : c.code = cc) (hE : gE G s s.heap) (hS : va_S G.2.2.2 s.heap H locs) (hown : s.vm.findClass own = some m.cls) (hlink : (Cond.fieldLink own index "jdk/internal/util/Preconditions" "SIOOBE_FORMATTER" "Ljava/util/function/BiFunction;").before args s = true) (hdg : decode cc pc = .ok (.getstatic index, 3))
    (kk : W p l e R s m args below meth c H locs kc ks Q (F0 m (pc + 3) ls (va_rf (kO (G.2.2.1 15)) :: rest))) : W p l e R s m args below meth c H locs kc ks Q (F0 m pc ls rest) := va_gets hx hb hE.2.2.2.2.2.2.2.2.2.2.1 hS hown hlink (fun _ h9 => h9) hdg kk
def chkA (G : gG) (S : gS) (y : Nat) : Option Unit := if anyO G S y = true then some () else none
theorem chkA_o {G : gG} {S : gS} {y : Nat} {u : Unit} (h : chkA G S y = some u) : anyO G S y = true := by
  unfold chkA at h
  split at h
  next e => exact e
  next => cases h
/-- the cache of Integers -/
def kCache (G : gG) (i : Int32) : Option Nat := if i < 0 ∨ 256 ≤ i.toNatClampNeg then none else some (G.2.2.1 (200 + i.toNatClampNeg))
theorem g_cacheL {i : Int32} {v : Nat} (hx : p.tables.exec = Jvm.exec) (hb : c.code = cc) (hE : gE G s s.heap) (hS : va_S G.2.2.2 s.heap H locs) (e1 : kCache G i = some v) (hdg : decode cc pc = .ok (.aaload, 1))
    (kk : W p l e R s m args below meth c H locs kc ks Q (F0 m (pc + 1) ls (.ref v :: rest))) : W p l e R s m args below meth c H locs kc ks Q (F0 m pc ls (.int i :: .ref (G.2.2.1 2) :: rest)) := by
  unfold kCache at e1
  split at e1
  next => cases e1
  next h =>
    cases e1
    exact vb_tq (v := .ref (G.2.2.1 (200 + i.toNatClampNeg))) hx hb hE.2.2.2.2.2.2.1.2.2.1 hS h rfl hdg kk
/-- texts and Integers as receivers -/
def chS (G : gG) (S : gS) (a : Nat) : Option Unit := if (sK G a).isSome = true ∨ clsO S a = some 25 then some () else none
def chI (G : gG) (S : gS) (a : Nat) : Option Unit := if (iK G a).isSome = true ∨ clsO S a = some 26 then some () else none
theorem g_recvS {S : gS} {a : Nat} {u : Unit} (hE : gE G s s.heap) (hk : rOK Rp) (hH : hp G Rp S H) (hS : va_S G.2.2.2 s.heap H locs) (h : chS G S a = some u) : ∃ cell : Cell, H[a]? = some cell ∧ cell.vm.isStatics = false ∧ s.vm.findClass "java/lang/String" = some cell.cls := by
  unfold chS at h
  split at h
  next h1 =>
    rcases h1 with h1 | h1
    · obtain ⟨i, hi⟩ := Option.isSome_iff_exists.mp h1
      obtain ⟨h2, h3⟩ := sK_o hi
      subst h3
      obtain ⟨cell, g1, g2, g3, -⟩ := ((hE.2.2.2.1.2.2.2.2.1 i h2).1).kept hS.2.1
      exact ⟨cell, g1, g2, g3⟩
    · obtain ⟨fs, h2⟩ := clsO_o h1
      exact g_recv hE hk hH (ci := 25) (q := (RJ9, TJ9, 4)) rfl h2
  next => cases h
theorem g_recvI {S : gS} {a : Nat} {u : Unit} (hE : gE G s s.heap) (hk : rOK Rp) (hH : hp G Rp S H) (hS : va_S G.2.2.2 s.heap H locs) (h : chI G S a = some u) : ∃ cell : Cell, H[a]? = some cell ∧ cell.vm.isStatics = false ∧ s.vm.findClass "java/lang/Integer" = some cell.cls := by
  unfold chI at h
  split at h
  next h1 =>
    rcases h1 with h1 | h1
    · obtain ⟨i, hi⟩ := Option.isSome_iff_exists.mp h1
      obtain ⟨h2, h3⟩ := iK_o hi
      subst h3
      obtain ⟨cell, g1, g2, g3, -⟩ := (hE.2.2.2.2.2.2.1.2.2.2.1 i h2).kept hS.2.1
      exact ⟨cell, g1, g2, g3⟩
    · obtain ⟨fs, h2⟩ := clsO_o h1
      exact g_recv hE hk hH (ci := 26) (q := (RJ23, TJ23, 1)) rfl h2
  next => cases h
theorem g_insS {own : String} {index a : Nat} {o : Option Nat} {u : Unit} {S : gS} (hx : p.tables.exec = Jvm.exec) (hb : c.code = cc) (hown : s.vm.findClass own = some m.cls) (hE : gE G s s.heap) (hk : rOK Rp) (hH : hp G Rp S H) (hS : va_S G.2.2.2 s.heap H locs) (hlink : (Cond.classLink own index "java/lang/String").before args s = true) (eo : o = some a) (h : chS G S a = some u) (hdg : decode cc pc = .ok (.instanceof index, 3))
    (kk : W p l e R s m args below meth c H locs kc ks Q (F0 m (pc + 3) ls (.int (nI 1) :: rest))) : W p l e R s m args below meth c H locs kc ks Q (F0 m pc ls (va_rf o :: rest)) := by
  subst eo
  exact va_instE hx hb hown hlink (g_recvS hE hk hH hS h) hdg kk
theorem g_castS {own : String} {index a : Nat} {o : Option Nat} {u : Unit} {S : gS} (hx : p.tables.exec = Jvm.exec) (hb : c.code = cc) (hown : s.vm.findClass own = some m.cls) (hE : gE G s s.heap) (hk : rOK Rp) (hH : hp G Rp S H) (hS : va_S G.2.2.2 s.heap H locs) (hlink : (Cond.classLink own index "java/lang/String").before args s = true) (eo : o = some a) (h : chS G S a = some u) (hdg : decode cc pc = .ok (.checkcast index, 3))
    (kk : W p l e R s m args below meth c H locs kc ks Q (F0 m (pc + 3) ls (va_rf o :: rest))) : W p l e R s m args below meth c H locs kc ks Q (F0 m pc ls (va_rf o :: rest)) := by
  subst eo
  exact va_castS hx hb hown hlink (hE.1.1 25 (RJ9, TJ9, 4) rfl).2 (g_recvS hE hk hH hS h) hdg kk
/-- the clone of a row of bytes, at the next address -/
theorem g_clnB {own : String} {index a n : Nat} {o : Option Nat} {f : Nat → Int32} {S S1 : gS} (hx : p.tables.exec = Jvm.exec) (hb : c.code = cc) (hml : c.maxLocals = ls.size) (hts : ∀ w ∈ lw_all, w.before args s = true) (hown : s.vm.findClass own = some m.cls) (hE : gE G s s.heap) (hA : ∀ q : Nat, s.heap.size ≤ q → G.2.2.2 q) (hk : rOK Rp) (hH : hp G Rp S H) (hS : va_S G.2.2.2 s.heap H locs)
    (hlink : (Cond.methodLink own index ⟨"[B", "clone", "()Ljava/lang/Object;"⟩).before args s = true) (eo : o = some a) (e1 : S.1 a = some (cAi 2 n f)) (hfit : ∀ i, i < n → fits .byte (.int (f i)) = true) (eS : S1 = mk S (cAi 2 n f))
    (hframes : 1 ≤ R.frames) (hlocals : (rest.map fun v => v.category).sum + 14 ≤ R.locals) (hcells : kc + 1 ≤ R.cells) (hslots : ks + n ≤ R.slots) (hdg : decode cc pc = .ok (.invokevirtual index, 3))
    (kk : ∀ (H1 : Heap), hp G Rp S1 H1 → va_S G.2.2.2 s.heap H1 locs → W p l e R s m args below meth c H1 locs (kc + 1) (ks + n) Q (F0 m (pc + 3) ls (.ref S.2 :: rest))) : W p l e R s m args below meth c H locs kc ks Q (F0 m pc ls (va_rf o :: rest)) := by
  subst eo
  subst eS
  obtain ⟨x, hx1, hP1⟩ := hp_arr hk hH e1
  obtain ⟨ws, hP, hD, hz, hback⟩ := hp_new hk hH
  have hnm : s.vm.findClass "[B" = some (G.2.1 2) := va_nm_byte (hE.1.2 2 _ rfl).2
  have hcl : va_Nw (.castable "[B" "java/lang/Cloneable") s := hE.2.1.1 _ _ q680
  obtain ⟨c0, t0', f1, f2, f3⟩ := Cond.castable_spec (va_Nw.use (A := args) rfl hcl)
  cases hnm.symm.trans f1
  obtain ⟨-, kS, hkS, compS, hkindS⟩ := (hE.1.2 2 _ rfl).1 0 (fun _ => .null)
  have hcell0 : H[a]? = some (vp_cell (G.2.1 2) (n, .inl f)) := by
    cases hx1
    exact hP1 0 _ rfl
  have hsz : (vp_cell (G.2.1 2) (n, .inl f)).slots.size = n := arrV_size _ _ _
  intro T hT X
  obtain ⟨-, kA, hkA, comp, hkind⟩ := State.isArrayOf_alike X.warmed.alike ((hE.1.2 2 _ rfl).1 0 (fun _ => .null))
  obtain ⟨vm', X', st⟩ := X.cloneArray hx hown hlink (hts _ q676) (hts _ q677) (hts _ q678) (hts _ q679) (a := a) (cell := vp_cell (G.2.1 2) (n, .inl f)) (by rw [hT]; exact hcell0) (fun k h => by cases h) (fun h => by cases h) hnm f2 f3
    (fun i v hv => by
      have hk' : T.vm.classes[G.2.1 2]? = some kA := hkA
      have h9 : fits .byte v = true := va_fit (ty := .byte) (F := fun j => .int (f j)) hfit i v hv
      rw [show (vp_cell (G.2.1 2) (n, .inl f)).cls = G.2.1 2 from rfl]
      simpa [State.fitsSlot, State.slotType?, hk', hkind] using h9)
    (g := F0 m pc ls (va_rf (some a) :: rest)) rfl (by rw [hml]) rfl (by rw [hb]; exact hdg) hframes (by show 2 * 0 + _ + 14 ≤ _; omega) hcells (by rw [hsz]; exact hslots) (hloader := Vm.clonesLoader_of_array hkS hkindS)
  rw [hsz] at X'
  generalize hH1 : H.push (vp_cell (G.2.1 2) (n, .inl f)) = H1
  have z1 : H1.size = H.size + 1 := by rw [← hH1, Array.size_push]
  have e1' : H1[H.size]? = some (vp_cell (G.2.1 2) (n, .inl f)) := by rw [← hH1, Array.getElem?_push_size]
  have o1 : ∀ q : Nat, q < H.size → H1[q]? = H[q]? := fun q hq => by rw [← hH1, Array.getElem?_push, if_neg (Nat.ne_of_lt hq)]
  have hk2 : ∀ (k : Nat) (y : Nat × va_E), ws[k]? = some y → H1[y.1]? = H[y.1]? := fun k y hy => o1 y.1 ((hP k y hy).lt)
  obtain ⟨t, b1, b2⟩ := kk H1 (hback (cAi 2 n f) _ H1 rfl z1 ((hP.kept hk2).app (fun k y hy => by
      have hz2 : k < 1 := (List.getElem?_eq_some_iff.mp hy).1
      rw [show k = 0 by omega] at hy
      cases hy
      show H1[S.2]? = _
      rw [← hz]
      exact e1')) (by
      have h9 := hD.push (e := .inl (G.2.1 2, n, .inl f)) hP rfl (hA _ hS.1)
      rw [hz] at h9
      exact h9)) ⟨Nat.le_trans hS.1 (by omega), fun y h1 h2 => (o1 y (Nat.lt_of_lt_of_le h1 hS.1)).trans (hS.2.1 y h1 h2), hS.2.2⟩
    ((T.setVm vm').pushCell (vp_cell (G.2.1 2) (n, .inl f))) (by rw [← hH1, ← hT]; rfl) X'
  refine ⟨t, st t ?_, b2⟩
  have hsz2 : T.heap.size = S.2 := by rw [hT]; exact hz
  rw [hsz2]
  exact b1
end
/-! more room does no harm -/
theorem hasRoom_mono {s : State} {pl : Platform} {r r' : Room} (h : s.hasRoom pl r' = true) (h1 : r.frames ≤ r'.frames) (h2 : r.locals ≤ r'.locals) (h3 : r.cells ≤ r'.cells) (h4 : r.slots ≤ r'.slots) : s.hasRoom pl r = true := by
  unfold State.hasRoom at h ⊢
  simp only [Bool.and_eq_true, decide_eq_true_eq] at h ⊢
  obtain ⟨⟨⟨⟨a0, a1, a2, a3, a4, a5⟩, a6⟩, a7⟩, a8⟩ := h
  exact ⟨⟨⟨⟨by omega, by omega, by omega, by omega, by omega, a5⟩, by omega⟩, by omega⟩, a8⟩
theorem met_room {l : Launch} {y : MethodName} {ws : List Cond} {rm rm' : Room} {Pc : Array Value → State → Prop} {Qc : Array Value → State → Outcome → State → Prop} {mc ms : Nat} {free : Addr → Prop} (h : Met l y ws rm Pc Qc mc ms free) (h1 : rm.frames ≤ rm'.frames) (h2 : rm.locals ≤ rm'.locals) (h3 : rm.cells ≤ rm'.cells) (h4 : rm.slots ≤ rm'.slots) : Met l y ws rm' Pc Qc mc ms free := by
  intro p e ha hf hc s m args below hfr happ hP hK
  refine h p e ha hf hc s m args below hfr ?_ hP hK
  unfold Spec.appliesLoose at happ ⊢
  rw [hfr] at happ ⊢
  simp only [Bool.and_eq_true] at happ ⊢
  exact ⟨⟨happ.1.1, hasRoom_mono happ.1.2 h1 h2 h3 h4⟩, happ.2⟩
theorem gMet_room {l : Launch} {y : MethodName} {cc : ByteArray} {maxL fr lo fr' lo' C N : Nat} {ret : Option FieldType} {G : gG} {Rp : gM → gM → Nat → Prop} {av : List Value} {S S2 : gS} {r : Option Value} (h : gMet l y cc maxL ret fr lo G Rp av S r S2 C N) (h1 : fr ≤ fr') (h2 : lo ≤ lo') : gMet l y cc maxL ret fr' lo' G Rp av S r S2 C N := met_room h h1 h2 (Nat.le_refl _) (Nat.le_refl _)
theorem gMetW_room {l : Launch} {y : MethodName} {cc : ByteArray} {maxL fr lo fr' lo' C N : Nat} {ret : Option FieldType} {hh : List (Nat × Nat × Nat × Nat)} {G : gG} {Rp : gM → gM → Nat → Prop} {av : List Value} {S S2 : gS} {r : Option Value} (h : gMetW l y cc maxL ret hh fr lo G Rp av S r S2 C N) (h1 : fr ≤ fr') (h2 : lo ≤ lo') : gMetW l y cc maxL ret hh fr' lo' G Rp av S r S2 C N := met_room h h1 h2 (Nat.le_refl _) (Nat.le_refl _)
/-! a method of java.lang.Object that no native row stands for -/
theorem met_ofWF {l : Launch} {y : MethodName} {ws ws' : List Cond} {rm : Room} {Pc : Array Value → State → Prop} {Qc : Array Value → State → Outcome → State → Prop} {mc ms : Nat} {free : Addr → Prop} {cc : ByteArray} {maxL : Nat} {ret : Option FieldType}
    (hy : plainFor y = true) (hw : ws = Cond.code y cc maxL ret :: ws')
    (body : ∀ p e s m args below meth c s₁, BodyLoose p l y (headSpec ws rm) cc maxL ret e s m args below meth c s₁ → c.maxLocals = maxL → Pc args s →
      W p l e (headSpec ws rm).room s m args below meth c s.heap [] 0 0 (MQ below Qc args s mc ms free) (entryFrame m args maxL)) : Met l y ws rm Pc Qc mc ms free := by
  refine MetFree.of_bodySF (code := cc) (maxLocals := maxL) (ret := ret) hy ?_ ?_
  · intro args s m h hn
    obtain ⟨meth, c, h1, h2, h3, h4, h5, h6, -, -⟩ := Cond.code_spec hn (atoms_spec (ws := ws) h _ (by rw [hw]; exact List.mem_cons_self))
    exact ⟨meth, c, h1, h2, h3, h4, h5, h6⟩
  · intro p e s m args below meth c s₁ B hml hP _
    have hh0 : s₁.heap = s.heap := by rw [B.state]; rfl
    obtain ⟨t, a1, o, b1, b2, b3⟩ := body p e s m args below meth c s₁ B hml hP s₁ hh0 (Stand.of_body B)
    exact ⟨t, o, a1, b1, b2, ⟨b3.1, b3.2⟩⟩
theorem g_startF {l : Launch} {G : gG} {Rp : gM → gM → Nat → Prop} {cc : ByteArray} {y : MethodName} {maxL fr lo C N : Nat} {ret : Option FieldType} {av : List Value} {S S2 : gS} {r : Option Value} (hy : plainFor y = true) (hn : (lg_sl av).length ≤ maxL)
    (body : ∀ (p : Program) (e : Env) (s : State) (m : MethodId) (args : Array Value) (below : List Frame) (meth : Method) (c : Code) (ls : Array Slot), gC p s m args meth c G y.cls y.name cc maxL ret → lv_has ls maxL (lv_args 0 av) → hp G Rp S s.heap → W p l e (gR fr lo C N) s m args below meth c s.heap [] 0 0 (gQ below G Rp r S2 args s C N) (F0 m 0 ls [])) :
    gMet l y cc maxL ret fr lo G Rp av S r S2 C N := by
  refine met_ofWF (cc := cc) (maxL := maxL) (ret := ret) hy rfl ?_
  intro p e s m args below meth c s₁ B hml hv
  obtain ⟨hav, hH, hE, hA⟩ := hv
  have hts := atoms_spec (ws := ws_ y cc maxL ret) B.pre
  have hts : ∀ w ∈ lw_all, w.before args s = true := fun w h => hts w (List.mem_cons_of_mem _ h)
  have hown : s.vm.findClass y.cls = some m.cls := findClass_of_methodNamed B.named
  have hin : meth.name = y.name := (name_of_methodNamed B.named B.method).1
  have hl := lv_entry av (n := maxL) hn
  rw [hav, lg_entry_eq]
  rw [← hav]
  exact body p e s m args below meth c _ ⟨B.exec, B.bytes, B.returns, B.notSynchronized, hml, hown, hts, hE, hA, hin⟩ hl hH
/-! bytes and chars as answers -/
def bg (v : Int32) (S : gS) : gO Int32 := if v.toInt8.toInt32 = v then some (v, S, 0, 0) else none
def cg (v : Int32) (S : gS) : gO Int32 := if v.toUInt32.toUInt16.toUInt32.toInt32 = v then some (v, S, 0, 0) else none
theorem g_bret {p : Program} {l : Launch} {e : Env} {s : State} {m : MethodId} {args : Array Value} {below : List Frame} {meth : Method} {c : Code} {G : gG} {Rp : gM → gM → Nat → Prop} {R : Room} {H : Heap} {locs : List Loc} {cc : ByteArray} {ls : Array Slot} {pc : Nat} {kc ks : Nat} {S Sf : gS} {v r : Int32} {C N mc ms : Nat} (hx : p.tables.exec = Jvm.exec) (hb : c.code = cc) (hr : meth.sig.returnType = some .byte) (hlk : meth.locks = false) (hH : hp G Rp S H) (hS : va_S G.2.2.2 s.heap H locs) (hkc : kc + C ≤ mc) (hks : ks + N ≤ ms) (hf : bg v S = some (r, Sf, C, N)) (hdg : decode cc pc = .ok (.ireturn, 1)) : W p l e R s m args below meth c H locs kc ks (gQ below G Rp (some (.int r)) Sf args s mc ms) (F0 m pc ls [.int v]) := by
  unfold bg at hf
  split at hf
  next h =>
    cases hf
    refine W.widen (k := mc) (n := ms) (by omega) (by omega) ?_
    exact W.zret (v := v) (ty := .byte) hx hb hr (congrArg Value.int h) (fun t ht _ => g_end hH hS _ t ht) hS.2.2 hdg hlk
  next => cases hf
theorem g_cret {p : Program} {l : Launch} {e : Env} {s : State} {m : MethodId} {args : Array Value} {below : List Frame} {meth : Method} {c : Code} {G : gG} {Rp : gM → gM → Nat → Prop} {R : Room} {H : Heap} {locs : List Loc} {cc : ByteArray} {ls : Array Slot} {pc : Nat} {kc ks : Nat} {S Sf : gS} {v r : Int32} {C N mc ms : Nat} (hx : p.tables.exec = Jvm.exec) (hb : c.code = cc) (hr : meth.sig.returnType = some .char) (hlk : meth.locks = false) (hH : hp G Rp S H) (hS : va_S G.2.2.2 s.heap H locs) (hkc : kc + C ≤ mc) (hks : ks + N ≤ ms) (hf : cg v S = some (r, Sf, C, N)) (hdg : decode cc pc = .ok (.ireturn, 1)) : W p l e R s m args below meth c H locs kc ks (gQ below G Rp (some (.int r)) Sf args s mc ms) (F0 m pc ls [.int v]) := by
  unfold cg at hf
  split at hf
  next h =>
    cases hf
    refine W.widen (k := mc) (n := ms) (by omega) (by omega) ?_
    exact W.zret (v := v) (ty := .char) hx hb hr (congrArg Value.int h) (fun t ht _ => g_end hH hS _ t ht) hS.2.2 hdg hlk
  next => cases hf
