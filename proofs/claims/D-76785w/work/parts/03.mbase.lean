/-! BASE: binds, the model's state, its picture, its contracts and rows -/
set_option maxRecDepth 100000
set_option maxHeartbeats 4000000
def bd {α β : Type} (o : Option α) (k : α → Option β) : Option β := match o with
  | some a => k a
  | none => none
theorem bdo {α β : Type} {o : Option α} {k : α → Option β} {r : β} (h : bd o k = some r) : ∃ a, o = some a ∧ k a = some r := by
  cases o with
  | none => cases h
  | some a => exact ⟨a, rfl, h⟩
def bd2 {α σ β : Type} (o : Option (α × σ)) (k : α → σ → Option β) : Option β := match o with
  | some q => k q.1 q.2
  | none => none
theorem bd2o {α σ β : Type} {o : Option (α × σ)} {k : α → σ → Option β} {r : β} (h : bd2 o k = some r) : ∃ a s, o = some (a, s) ∧ k a s = some r := by
  cases o with
  | none => cases h
  | some q => exact ⟨q.1, q.2, rfl, h⟩
/-- the loops' fuel: more than any loop runs -/
def FU : Nat := 10000
/-- the model's state: int arrays 0 .. 10 and, as 20, its scalars; the longs -/
abbrev mS : Type := (Nat → Nat → Int32) × (Nat → Int64)
def mup (S : mS) (k j : Nat) (x : Int32) : mS := (fun a => if a = k then upd (S.1 a) j x else S.1 a, S.2)
def mf (S : mS) (j : Nat) : Int32 := S.1 20 j
def ms (S : mS) (j : Nat) (x : Int32) : Option mS := some (mup S 20 j x)
def msz (S : mS) (j : Nat) (x : Int32) : Option mS := if x = nI 0 ∨ x = nI 1 then some (mup S 20 j x) else none
def mrd (S : mS) (k n : Nat) (i : Int32) : Option Int32 := if i < 0 ∨ n ≤ i.toNatClampNeg then none else some (S.1 k i.toNatClampNeg)
def mwr (S : mS) (k n : Nat) (i x : Int32) : Option mS := if i < 0 ∨ n ≤ i.toNatClampNeg then none else some (mup S k i.toNatClampNeg x)
def mrdL (S : mS) (i : Int32) : Option Int64 := if i < 0 ∨ 320 ≤ i.toNatClampNeg then none else some (S.2 i.toNatClampNeg)
def mwrL (S : mS) (i : Int32) (x : Int64) : Option mS := if i < 0 ∨ 320 ≤ i.toNatClampNeg then none else some (S.1, vp_updL S.2 i.toNatClampNeg x)
def mrem (x y : Int32) : Option Int32 := if y = 0 then none else some (x - x / y * y)
def zr (v : Int32) (S : mS) : Option (Int32 × mS) := if v = nI 0 ∨ v = nI 1 then some (v, S) else none
theorem mrd_o {S : mS} {k n : Nat} {i v : Int32} (h : mrd S k n i = some v) : vp_in i n ∧ v = S.1 k i.toNatClampNeg := by
  unfold mrd at h
  split at h
  next => cases h
  next q => cases h; exact ⟨q, rfl⟩
theorem mwr_o {S S' : mS} {k n : Nat} {i x : Int32} (h : mwr S k n i x = some S') : vp_in i n ∧ S' = mup S k i.toNatClampNeg x := by
  unfold mwr at h
  split at h
  next => cases h
  next q => cases h; exact ⟨q, rfl⟩
theorem mrdL_o {S : mS} {i : Int32} {v : Int64} (h : mrdL S i = some v) : vp_in i 320 ∧ v = S.2 i.toNatClampNeg := by
  unfold mrdL at h
  split at h
  next => cases h
  next q => cases h; exact ⟨q, rfl⟩
theorem mwrL_o {S S' : mS} {i : Int32} {x : Int64} (h : mwrL S i x = some S') : vp_in i 320 ∧ S' = (S.1, vp_updL S.2 i.toNatClampNeg x) := by
  unfold mwrL at h
  split at h
  next => cases h
  next q => cases h; exact ⟨q, rfl⟩
theorem mrem_o {x y v : Int32} (h : mrem x y = some v) : ¬ y = 0 ∧ v = x - x / y * y := by
  unfold mrem at h
  split at h
  next => cases h
  next q => cases h; exact ⟨q, rfl⟩
theorem msz_o {S S' : mS} {j : Nat} {x : Int32} (h : msz S j x = some S') : (x = nI 0 ∨ x = nI 1) ∧ S' = mup S 20 j x := by
  unfold msz at h
  split at h
  next q => cases h; exact ⟨q, rfl⟩
  next => cases h
theorem zr_o {v r : Int32} {S Sf : mS} (h : zr v S = some (r, Sf)) : (v = nI 0 ∨ v = nI 1) ∧ v = r ∧ S = Sf := by
  unfold zr at h
  split at h
  next q => cases h; exact ⟨q, rfl, rfl⟩
  next => cases h
abbrev mCl : List vw_C := [(RX3, TX3, 17)]
def mfs (am : Nat → Nat) (S : mS) : List Value := [.ref (am 1), .ref (am 2), .ref (am 3), .int (S.1 20 0), .ref (am 4), .ref (am 5), .ref (am 6), .int (S.1 20 1), .int (S.1 20 2), .ref (am 7), .int (S.1 20 3), .ref (am 8), .int (S.1 20 4), .ref (am 9), .ref (am 10), .ref (am 12), .ref (am 11)]
def mws (am : Nat → Nat) (cI cJ : ClassId) (S : mS) : va_W := [(am 0, .inr (0, mfs am S)), (am 1, .inl (cI, 7919, .inl (S.1 0))), (am 2, .inl (cI, 7919, .inl (S.1 1))), (am 3, .inl (cI, 7919, .inl (S.1 2))), (am 4, .inl (cI, 5, .inl (S.1 3))), (am 5, .inl (cI, 6, .inl (S.1 4))), (am 6, .inl (cI, 250, .inl (S.1 5))), (am 7, .inl (cI, 4, .inl (S.1 6))), (am 8, .inl (cI, 20, .inl (S.1 7))), (am 9, .inl (cI, 8, .inl (S.1 8))), (am 10, .inl (cI, 8, .inl (S.1 9))), (am 11, .inl (cI, 32, .inl (S.1 10))), (am 12, .inl (cJ, 320, .inr (.inl S.2)))]
def mA (am : Nat → Nat) : Nat → Prop := fun q => ∃ k, k < 13 ∧ q = am k
abbrev mTy (cI cJ : ClassId) : List (ClassId × FieldType) := [(cI, .int), (cJ, .long)]
def mPc (D : va_G) (am : Nat → Nat) (cI cJ : ClassId) (av : List Value) (S : mS) : Array Value → State → Prop := va_Pc av (fun U => va_P D mCl (mws am cI cJ S) U.heap ∧ va_D (mA am) (mws am cI cJ S) ∧ va_K D mCl (mTy cI cJ) U)
def mQc (D : va_G) (am : Nat → Nat) (cI cJ : ClassId) (r : Option Value) (S : mS) : Array Value → State → Outcome → State → Prop := fun _ st o t => o = .returned r ∧ va_P D mCl (mws am cI cJ S) t.heap ∧ va_D (mA am) (mws am cI cJ S) ∧ t.heap.size = st.heap.size ∧ va_F (mA am) st t
abbrev mR (fr lo : Nat) : Room := { frames := fr, cells := 0, slots := 0, locals := lo }
/-- a method's contract: of a state S it makes S2 and answers r; nothing is made, no cell of another's is touched -/
def mMet (l : Launch) (y : MethodName) (cc : ByteArray) (maxL : Nat) (ret : Option FieldType) (fr lo : Nat) (D : va_G) (am : Nat → Nat) (cI cJ : ClassId) (av : List Value) (S : mS) (r : Option Value) (S2 : mS) : Prop :=
  Met l y (ws_ y cc maxL ret) (mR fr lo) (mPc D am cI cJ av S) (mQc D am cI cJ r S2) 0 0 (mA am)
abbrev mQ (below : List Frame) (D : va_G) (am : Nat → Nat) (cI cJ : ClassId) (r : Option Value) (Sf : mS) (args : Array Value) (s : State) : State → Prop := MQ below (mQc D am cI cJ r Sf) args s 0 0 (mA am)
/-- what stays all through a method -/
def mC (p : Program) (s : State) (m : MethodId) (args : Array Value) (meth : Method) (c : Code) (D : va_G) (cI cJ : ClassId) (cc : ByteArray) (nL : Nat) (ret : Option FieldType) : Prop :=
  p.tables.exec = Jvm.exec ∧ c.code = cc ∧ meth.sig.returnType = ret ∧ meth.locks = false ∧ c.maxLocals = nL ∧ s.vm.findClass RX3 = some m.cls ∧ (∀ w ∈ lw_all, w.before args s = true) ∧ va_K D mCl (mTy cI cJ) s
section
variable {p : Program} {l : Launch} {e : Env} {s : State} {m : MethodId} {args : Array Value} {below : List Frame} {meth : Method} {c : Code} {D : va_G} {am : Nat → Nat} {cI cJ : ClassId} {R : Room} {H : Heap} {locs : List Loc} {Q : State → Prop} {cc : ByteArray} {ls : Array Slot} {rest : List Value} {pc : Nat}
theorem m_blind {av : List Value} {S : mS} : FrameBlind (mPc D am cI cJ av S) := by
  intro a U g mk q
  obtain ⟨q0, qP, qD, qK⟩ := q
  exact ⟨q0, qP, qD, va_K.moved (u := U) (U := U.calling g mk a) (Vm.Alike.refl U.vm) qK⟩
theorem m_start {y : MethodName} {maxL fr lo : Nat} {ret : Option FieldType} {av : List Value} {S S2 : mS} {r : Option Value} (hy : plainName y.cls = true) (hcl : y.cls = RX3) (hn : (lg_sl av).length ≤ maxL)
    (body : ∀ (p : Program) (e : Env) (s : State) (m : MethodId) (args : Array Value) (below : List Frame) (meth : Method) (c : Code) (ls : Array Slot), mC p s m args meth c D cI cJ cc maxL ret → lv_has ls maxL (lv_args 0 av) → va_P D mCl (mws am cI cJ S) s.heap → va_D (mA am) (mws am cI cJ S) → W p l e (mR fr lo) s m args below meth c s.heap [] 0 0 (mQ below D am cI cJ r S2 args s) (F0 m 0 ls [])) :
    mMet l y cc maxL ret fr lo D am cI cJ av S r S2 := by
  refine Met.ofW (cc := cc) (maxL := maxL) (ret := ret) hy rfl ?_
  intro p e s m args below meth c s₁ B hml hv
  obtain ⟨hav, hP, hD, hK⟩ := hv
  have hts := atoms_spec (ws := ws_ y cc maxL ret) B.pre
  have hts : ∀ w ∈ lw_all, w.before args s = true := fun w h => hts w (List.mem_cons_of_mem _ h)
  have hown : s.vm.findClass y.cls = some m.cls := findClass_of_methodNamed B.named
  rw [hcl] at hown
  have hl := lv_entry av (n := maxL) hn
  rw [hav, lg_entry_eq]
  rw [← hav]
  exact body p e s m args below meth c _ ⟨B.exec, B.bytes, B.returns, B.notSynchronized, hml, hown, hts, hK⟩ hl hP hD
theorem m_iald {S : mS} {k n : Nat} {i v : Int32} (hx : p.tables.exec = Jvm.exec) (hb : c.code = cc) (hK : va_K D mCl (mTy cI cJ) s) (hP : va_P D mCl (mws am cI cJ S) H) (hw : (mws am cI cJ S)[k + 1]? = some (am (k + 1), .inl (cI, n, .inl (S.1 k)))) (e1 : mrd S k n i = some v) (hdg : decode cc pc = .ok (.iaload, 1))
    (kk : W p l e R s m args below meth c H locs 0 0 Q (F0 m (pc + 1) ls (.int v :: rest))) : W p l e R s m args below meth c H locs 0 0 Q (F0 m pc ls (.int i :: .ref (am (k + 1)) :: rest)) := by
  obtain ⟨h1, rfl⟩ := mrd_o e1
  exact va_iald hx hb hK hP (k + 1) 0 hw rfl h1 hdg kk
theorem m_iast {S S' : mS} {k n : Nat} {i x : Int32} (hx : p.tables.exec = Jvm.exec) (hb : c.code = cc) (hK : va_K D mCl (mTy cI cJ) s) (hP : va_P D mCl (mws am cI cJ S) H) (hD : va_D (mA am) (mws am cI cJ S)) (hS : va_S (mA am) s.heap H locs) (hw : (mws am cI cJ S)[k + 1]? = some (am (k + 1), .inl (cI, n, .inl (S.1 k)))) (hset : ∀ (i : Nat) (x : Int32), (mws am cI cJ S).set (k + 1) (am (k + 1), .inl (cI, n, .inl (upd (S.1 k) i x))) = mws am cI cJ (mup S k i x)) (e1 : mwr S k n i x = some S') (hdg : decode cc pc = .ok (.iastore, 1))
    (kk : ∀ (H1 : Heap) (locs1 : List Loc), va_P D mCl (mws am cI cJ S') H1 → va_D (mA am) (mws am cI cJ S') → va_S (mA am) s.heap H1 locs1 → W p l e R s m args below meth c H1 locs1 0 0 Q (F0 m (pc + 1) ls rest)) : W p l e R s m args below meth c H locs 0 0 Q (F0 m pc ls (.int x :: .int i :: .ref (am (k + 1)) :: rest)) := by
  obtain ⟨h1, rfl⟩ := mwr_o e1
  refine va_iast hx hb hK hP hD hS (k + 1) 0 hw rfl h1 hdg (fun H1 locs1 hP hD hS => ?_)
  rw [hset] at hP hD
  exact kk H1 locs1 hP hD hS
theorem m_lald {S : mS} {i : Int32} {v : Int64} (hx : p.tables.exec = Jvm.exec) (hb : c.code = cc) (hK : va_K D mCl (mTy cI cJ) s) (hP : va_P D mCl (mws am cI cJ S) H) (e1 : mrdL S i = some v) (hdg : decode cc pc = .ok (.laload, 1))
    (kk : W p l e R s m args below meth c H locs 0 0 Q (F0 m (pc + 1) ls (.long v :: rest))) : W p l e R s m args below meth c H locs 0 0 Q (F0 m pc ls (.int i :: .ref (am 12) :: rest)) := by
  obtain ⟨h1, rfl⟩ := mrdL_o e1
  exact va_lald (n := 320) (f := S.2) hx hb hK hP 12 1 rfl rfl h1 hdg kk
theorem m_last {S S' : mS} {i : Int32} {x : Int64} (hx : p.tables.exec = Jvm.exec) (hb : c.code = cc) (hK : va_K D mCl (mTy cI cJ) s) (hP : va_P D mCl (mws am cI cJ S) H) (hD : va_D (mA am) (mws am cI cJ S)) (hS : va_S (mA am) s.heap H locs) (e1 : mwrL S i x = some S') (hdg : decode cc pc = .ok (.lastore, 1))
    (kk : ∀ (H1 : Heap) (locs1 : List Loc), va_P D mCl (mws am cI cJ S') H1 → va_D (mA am) (mws am cI cJ S') → va_S (mA am) s.heap H1 locs1 → W p l e R s m args below meth c H1 locs1 0 0 Q (F0 m (pc + 1) ls rest)) : W p l e R s m args below meth c H locs 0 0 Q (F0 m pc ls (.long x :: .int i :: .ref (am 12) :: rest)) := by
  obtain ⟨h1, rfl⟩ := mwrL_o e1
  exact va_last (n := 320) (f := S.2) hx hb hK hP hD hS 12 1 rfl rfl h1 hdg (fun H1 locs1 hP hD hS => kk H1 locs1 hP hD hS)
theorem m_put {S S' : mS} {j js index : Nat} {x : Int32} (hx : p.tables.exec = Jvm.exec) (hb : c.code = cc) (hts : ∀ w ∈ lw_all, w.before args s = true) (hown : s.vm.findClass RX3 = some m.cls) (hK : va_K D mCl (mTy cI cJ) s) (hP : va_P D mCl (mws am cI cJ S) H) (hD : va_D (mA am) (mws am cI cJ S)) (hS : va_S (mA am) s.heap H locs) (hj : j < 17) (h1 : (TX3 j).2.2.2 = false) (h2 : tyX3 j = .int) (hlink : (Cond.fieldLink RX3 index RX3 (TX3 j).2.1 (TX3 j).2.2.1).before args s = true) (h3 : (TX3 j).1 = RX3) (hset : (mws am cI cJ S).set 0 (am 0, .inr (0, (mfs am S).set j (.int x))) = mws am cI cJ (mup S 20 js x)) (e1 : ms S js x = some S') (hdg : decode cc pc = .ok (.putfield index, 3))
    (kk : ∀ (H1 : Heap) (locs1 : List Loc), va_P D mCl (mws am cI cJ S') H1 → va_D (mA am) (mws am cI cJ S') → va_S (mA am) s.heap H1 locs1 → W p l e R s m args below meth c H1 locs1 0 0 Q (F0 m (pc + 3) ls rest)) : W p l e R s m args below meth c H locs 0 0 Q (F0 m pc ls (.int x :: .ref (am 0) :: rest)) := by
  cases e1
  refine va_put (D := D) (ci := 0) (v := .int x) (ty := .int) (C := RX3) (T := TX3) (N := 17) hx hb hts in_X3 tyX3 tyX3_ok nmX3 hown hK hP hD hS 0 rfl rfl j hj hlink (fun z h9 => by rw [h3] at h9; exact h9) h1 (by rw [tyX3_ok j hj, h2]) rfl rfl hj hdg (fun H1 locs1 hP hD hS => ?_)
  rw [hset] at hP hD
  exact kk H1 locs1 hP hD hS
theorem m_putz {S S' : mS} {j js index : Nat} {x : Int32} (hx : p.tables.exec = Jvm.exec) (hb : c.code = cc) (hts : ∀ w ∈ lw_all, w.before args s = true) (hown : s.vm.findClass RX3 = some m.cls) (hK : va_K D mCl (mTy cI cJ) s) (hP : va_P D mCl (mws am cI cJ S) H) (hD : va_D (mA am) (mws am cI cJ S)) (hS : va_S (mA am) s.heap H locs) (hj : j < 17) (h1 : (TX3 j).2.2.2 = false) (h2 : tyX3 j = .boolean) (hlink : (Cond.fieldLink RX3 index RX3 (TX3 j).2.1 (TX3 j).2.2.1).before args s = true) (h3 : (TX3 j).1 = RX3) (hset : (mws am cI cJ S).set 0 (am 0, .inr (0, (mfs am S).set j (.int x))) = mws am cI cJ (mup S 20 js x)) (e1 : msz S js x = some S') (hdg : decode cc pc = .ok (.putfield index, 3))
    (kk : ∀ (H1 : Heap) (locs1 : List Loc), va_P D mCl (mws am cI cJ S') H1 → va_D (mA am) (mws am cI cJ S') → va_S (mA am) s.heap H1 locs1 → W p l e R s m args below meth c H1 locs1 0 0 Q (F0 m (pc + 3) ls rest)) : W p l e R s m args below meth c H locs 0 0 Q (F0 m pc ls (.int x :: .ref (am 0) :: rest)) := by
  obtain ⟨hz, rfl⟩ := msz_o e1
  refine va_put (D := D) (ci := 0) (v := .int x) (ty := .boolean) (C := RX3) (T := TX3) (N := 17) hx hb hts in_X3 tyX3 tyX3_ok nmX3 hown hK hP hD hS 0 rfl rfl j hj hlink (fun z h9 => by rw [h3] at h9; exact h9) h1 (by rw [tyX3_ok j hj, h2]) (by rcases hz with rfl | rfl <;> rfl) (by rcases hz with rfl | rfl <;> rfl) hj hdg (fun H1 locs1 hP hD hS => ?_)
  rw [hset] at hP hD
  exact kk H1 locs1 hP hD hS
theorem m_irem {x y v : Int32} (hx : p.tables.exec = Jvm.exec) (hb : c.code = cc) (hdg : decode cc pc = .ok (.irem, 1)) (e1 : mrem x y = some v)
    (kk : W p l e R s m args below meth c H locs 0 0 Q (F0 m (pc + 1) ls (.int v :: rest))) : W p l e R s m args below meth c H locs 0 0 Q (F0 m pc ls (.int y :: .int x :: rest)) := by
  obtain ⟨h1, rfl⟩ := mrem_o e1
  exact lv_irem hx hb hdg h1 kk
theorem m_end {S : mS} {T : State} (hP : va_P D mCl (mws am cI cJ S) H) (hD : va_D (mA am) (mws am cI cJ S)) (hS : va_S (mA am) s.heap H locs) (hT : T.heap = H) (X : Stand p l e R s m args below meth c T locs 0 0) (v : Option Value) : ∀ t : State, t.heap = H → mQc D am cI cJ v S args s (.returned v) t := by
  intro t ht
  have hz := X.heapSize
  rw [hT] at hz
  exact ⟨rfl, by rw [ht]; exact hP, hD, by rw [ht]; exact Nat.le_antisymm hz hS.1, hS.F ht⟩
theorem m_iret {S Sf : mS} {v r : Int32} (hx : p.tables.exec = Jvm.exec) (hb : c.code = cc) (hr : meth.sig.returnType = some .int) (hlk : meth.locks = false) (hP : va_P D mCl (mws am cI cJ S) H) (hD : va_D (mA am) (mws am cI cJ S)) (hS : va_S (mA am) s.heap H locs) (hf : some (v, S) = some (r, Sf)) (hdg : decode cc pc = .ok (.ireturn, 1)) : W p l e R s m args below meth c H locs 0 0 (mQ below D am cI cJ (some (.int r)) Sf args s) (F0 m pc ls [.int v]) := by
  cases hf
  intro T hT X
  exact W.iret (v := v) hx hb hr (fun t ht _ => m_end hP hD hS hT X _ t ht) hS.2.2 hdg hlk T hT X
theorem m_zret {S Sf : mS} {v r : Int32} (hx : p.tables.exec = Jvm.exec) (hb : c.code = cc) (hr : meth.sig.returnType = some .boolean) (hlk : meth.locks = false) (hP : va_P D mCl (mws am cI cJ S) H) (hD : va_D (mA am) (mws am cI cJ S)) (hS : va_S (mA am) s.heap H locs) (hf : zr v S = some (r, Sf)) (hdg : decode cc pc = .ok (.ireturn, 1)) : W p l e R s m args below meth c H locs 0 0 (mQ below D am cI cJ (some (.int r)) Sf args s) (F0 m pc ls [.int v]) := by
  obtain ⟨hz, rfl, rfl⟩ := zr_o hf
  intro T hT X
  exact W.zret (v := v) (ty := .boolean) hx hb hr (by rcases hz with rfl | rfl <;> rfl) (fun t ht _ => m_end hP hD hS hT X _ t ht) hS.2.2 hdg hlk T hT X
theorem m_lret {S Sf : mS} {v r : Int64} (hx : p.tables.exec = Jvm.exec) (hb : c.code = cc) (hr : meth.sig.returnType = some .long) (hlk : meth.locks = false) (hP : va_P D mCl (mws am cI cJ S) H) (hD : va_D (mA am) (mws am cI cJ S)) (hS : va_S (mA am) s.heap H locs) (hf : some (v, S) = some (r, Sf)) (hdg : decode cc pc = .ok (.lreturn, 1)) : W p l e R s m args below meth c H locs 0 0 (mQ below D am cI cJ (some (.long r)) Sf args s) (F0 m pc ls [.long v]) := by
  cases hf
  intro T hT X
  exact W.lret (v := v) hx hb hr (fun t ht _ => m_end hP hD hS hT X _ t ht) hS.2.2 hdg hlk T hT X
theorem m_vret {S Sf : mS} {r : Unit} (hx : p.tables.exec = Jvm.exec) (hb : c.code = cc) (hr : meth.sig.returnType = none) (hlk : meth.locks = false) (hP : va_P D mCl (mws am cI cJ S) H) (hD : va_D (mA am) (mws am cI cJ S)) (hS : va_S (mA am) s.heap H locs) (hf : some ((), S) = some (r, Sf)) (hdg : decode cc pc = .ok (.return_, 1)) : W p l e R s m args below meth c H locs 0 0 (mQ below D am cI cJ none Sf args s) (F0 m pc ls []) := by
  cases hf
  intro T hT X
  exact W.vret hx hb hr (fun t ht _ => m_end hP hD hS hT X _ t ht) hS.2.2 hdg hlk T hT X
theorem m_call {S2 : mS} {v : Option Value} {st0 st1 : List Value} {a : Array Value} (hrun : va_Run p l e R s m args below meth c H locs 0 0 0 0 (F0 m pc ls st0) rest (mQc D am cI cJ v S2 a) (mA am)) (hS : va_S (mA am) s.heap H locs) (hst : v.toList ++ rest = st1)
    (kk : ∀ (H1 : Heap) (locs1 : List Loc), va_P D mCl (mws am cI cJ S2) H1 → va_D (mA am) (mws am cI cJ S2) → va_S (mA am) s.heap H1 locs1 → W p l e R s m args below meth c H1 locs1 0 0 Q (F0 m (pc + 3) ls st1)) : W p l e R s m args below meth c H locs 0 0 Q (F0 m pc ls st0) := by
  intro T hT X
  obtain ⟨v', st₀, t, T', L, h0, X', hL, e1, e2, ⟨hv, hP1, hD1, hz, hz2, hk⟩, st⟩ := hrun T hT X
  cases hv
  subst hst
  rw [h0] at hz2 hk
  obtain ⟨t2, a1, b1⟩ := kk T'.heap (locs ++ L) (by rw [e1]; exact hP1) hD1 ⟨Nat.le_trans hS.1 (by rw [e1]; exact hz2), fun q h1 h2 => by rw [e1, hk q (Nat.lt_of_lt_of_le h1 hS.1) h2]; exact hS.2.1 q h1 h2, fun q hq => by
      rcases List.mem_append.mp hq with h | h
      · exact hS.2.2 q h
      · exact hL q h⟩ T' rfl X'
  exact ⟨t2, st t2 a1, b1⟩
theorem m_callV {y : MethodName} {bytes : ByteArray} {maxL nL fr lo fr' lo' n index : Nat} {ret ret' : Option FieldType} {As st0 st1 : List Value} {v : Option Value} {S S2 : mS} (hc : mC p s m args meth c D cI cJ cc nL ret') (hM : mMet l y bytes maxL ret fr' lo' D am cI cJ (.ref (am 0) :: As) S v S2) (cw : CallW (mR fr lo) s args RX3 RX3 index y bytes maxL ret (ws_ y bytes maxL ret) (mR fr' lo') 0 0 n) (hn : As.length = n) (hsize : ls.size = nL) (hst0 : st0 = As.reverse ++ .ref (am 0) :: rest) (hst : v.toList ++ rest = st1) (hW : 2 * (F0 m pc ls st0).monitorRoom + (rest.map fun v => v.category).sum ≤ 8) (hdg : decode cc pc = .ok (.invokevirtual index, 3)) (hP : va_P D mCl (mws am cI cJ S) H) (hD : va_D (mA am) (mws am cI cJ S)) (hS : va_S (mA am) s.heap H locs)
    (kk : ∀ (H1 : Heap) (locs1 : List Loc), va_P D mCl (mws am cI cJ S2) H1 → va_D (mA am) (mws am cI cJ S2) → va_S (mA am) s.heap H1 locs1 → W p l e (mR fr lo) s m args below meth c H1 locs1 0 0 Q (F0 m (pc + 3) ls st1)) : W p l e (mR fr lo) s m args below meth c H locs 0 0 Q (F0 m pc ls st0) := by
  obtain ⟨hx, hb, hr, hlk, hml, hown, hts, hK⟩ := hc
  exact m_call (va_runV (As := As) (rest := rest) ⟨hx, hb, hml, hown, hts⟩ hM cw ⟨m_blind, va_recv hK hP (ci := 0) (q0 := 0) rfl rfl, fun U hU hW => ⟨rfl, by rw [hU]; exact hP, hD, va_K.moved hW.alike hK⟩⟩ rfl hn hsize hst0 hW hdg ⟨Nat.le_refl 0, Nat.le_refl 0⟩) hS hst kk
theorem m_callS {y : MethodName} {bytes : ByteArray} {maxL nL fr lo fr' lo' n index : Nat} {ret ret' : Option FieldType} {As st0 st1 : List Value} {v : Option Value} {S S2 : mS} (hc : mC p s m args meth c D cI cJ cc nL ret') (hM : mMet l y bytes maxL ret fr' lo' D am cI cJ As S v S2) (cw : CallB (mR fr lo) s args RX3 index y bytes maxL ret (ws_ y bytes maxL ret) (mR fr' lo') 0 0 n ∧ (Cond.static y).before args s = true) (hn : As.length = n) (hsize : ls.size = nL) (hst0 : st0 = As.reverse ++ rest) (hst : v.toList ++ rest = st1) (hW : 2 * (F0 m pc ls st0).monitorRoom + (rest.map fun v => v.category).sum ≤ 8) (hdg : decode cc pc = .ok (.invokestatic index, 3)) (hP : va_P D mCl (mws am cI cJ S) H) (hD : va_D (mA am) (mws am cI cJ S)) (hS : va_S (mA am) s.heap H locs)
    (kk : ∀ (H1 : Heap) (locs1 : List Loc), va_P D mCl (mws am cI cJ S2) H1 → va_D (mA am) (mws am cI cJ S2) → va_S (mA am) s.heap H1 locs1 → W p l e (mR fr lo) s m args below meth c H1 locs1 0 0 Q (F0 m (pc + 3) ls st1)) : W p l e (mR fr lo) s m args below meth c H locs 0 0 Q (F0 m pc ls st0) := by
  obtain ⟨hx, hb, hr, hlk, hml, hown, hts, hK⟩ := hc
  exact m_call (va_runS (As := As) (rest := rest) ⟨hx, hb, hml, hown, hts⟩ hM cw ⟨m_blind, fun U hU hW => ⟨rfl, by rw [hU]; exact hP, hD, va_K.moved hW.alike hK⟩⟩ rfl hn hsize hst0 hW hdg ⟨Nat.le_refl 0, Nat.le_refl 0⟩) hS hst kk
end
