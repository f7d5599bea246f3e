/-! LAMBDAS: calls, in rows -/
set_option maxRecDepth 100000
set_option maxHeartbeats 4000000
theorem g_startN {l : Launch} {G : gG} {Rp : gM → gM → Nat → Prop} {cc : ByteArray} {y : MethodName} {maxL fr lo C N : Nat} {ret : Option FieldType} {av : List Value} {S S2 : gS} {r : Option Value} (hy : plainName y.cls = true) (hn : (lg_sl av).length ≤ maxL)
    (body : ∀ (p : Program) (e : Env) (s : State) (m : MethodId) (args : Array Value) (below : List Frame) (meth : Method) (c : Code) (ls : Array Slot), s.methodNamed? y = some m → gC p s m args meth c G y.cls y.name cc maxL ret → lv_has ls maxL (lv_args 0 av) → hp G Rp S s.heap → W p l e (gR fr lo C N) s m args below meth c s.heap [] 0 0 (gQ below G Rp r S2 args s C N) (F0 m 0 ls [])) :
    gMet l y cc maxL ret fr lo G Rp av S r S2 C N := by
  refine Met.ofW (cc := cc) (maxL := maxL) (ret := ret) hy rfl ?_
  intro p e s m args below meth c s₁ B hml hv
  obtain ⟨hav, hH, hE, hA⟩ := hv
  have hts := atoms_spec (ws := ws_ y cc maxL ret) B.pre
  have hts : ∀ w ∈ lw_all, w.before args s = true := fun w h => hts w (List.mem_cons_of_mem _ h)
  have hown : s.vm.findClass y.cls = some m.cls := findClass_of_methodNamed B.named
  have hin : meth.name = y.name := (name_of_methodNamed B.named B.method).1
  have hl := lv_entry av (n := maxL) hn
  rw [hav, lg_entry_eq]
  rw [← hav]
  exact body p e s m args below meth c _ B.named ⟨B.exec, B.bytes, B.returns, B.notSynchronized, hml, hown, hts, hE, hA, hin⟩ hl hH
/-- what a lambda's cell holds, read off the state -/
def lamQ (S : gS) (b t : Nat) : Option (Option Nat) := match S.1 b with
  | some (.inr (.inl (t', n, .inr (.inr f)))) => if t' = t ∧ n = 1 then some (f 0) else none
  | _ => none
def lamI (S : gS) (b t : Nat) : Option Int32 := match S.1 b with
  | some (.inr (.inl (t', n, .inl f))) => if t' = t ∧ n = 1 then some (f 0) else none
  | _ => none
theorem lamQ_o {S : gS} {b t : Nat} {o : Option Nat} (h : lamQ S b t = some o) : ∃ f, S.1 b = some (cAq t 1 f) ∧ f 0 = o := by
  unfold lamQ at h
  split at h
  next t' n f hq =>
    split at h
    next e => obtain ⟨rfl, rfl⟩ := e; cases h; exact ⟨f, hq, rfl⟩
    next => cases h
  next => cases h
theorem lamI_o {S : gS} {b t : Nat} {o : Int32} (h : lamI S b t = some o) : ∃ f, S.1 b = some (cAi t 1 f) ∧ f 0 = o := by
  unfold lamI at h
  split at h
  next t' n f hq =>
    split at h
    next e => obtain ⟨rfl, rfl⟩ := e; cases h; exact ⟨f, hq, rfl⟩
    next => cases h
  next => cases h
/-- the class of a lambda's cell (21 ..) -/
def lamK (S : gS) (b : Nat) : Option Nat := match S.1 b with
  | some (.inr (.inl (t', _))) => some t'
  | _ => none
theorem va_rf_ref (o : Option Nat) : (va_rf o).isRef = true := by cases o <;> rfl
section LAMW
variable {p : Program} {l : Launch} {e : Env} {s : State} {m : MethodId} {args : Array Value} {below : List Frame} {meth : Method} {c : Code} {G : gG} {Rp : gM → gM → Nat → Prop} {R : Room} {H : Heap} {locs : List Loc} {Q : State → Prop} {cc : ByteArray} {ls : Array Slot} {rest : List Value} {pc : Nat} {kc ks : Nat}
theorem lam_cell (hE : gE G s s.heap) (hk : rOK Rp) {S : gS} {b t : Nat} {cv : Value} (hH : hp G Rp S H) (h : (∃ o, lamQ S b t = some o ∧ cv = va_rf o) ∨ (∃ i, lamI S b t = some i ∧ cv = .int i)) : ∃ cell : Cell, H[b]? = some cell ∧ cell.cls = G.2.1 t ∧ cell.vm = .none ∧ cell.slots[0]? = some cv := by
  rcases h with ⟨o, h, rfl⟩ | ⟨i, h, rfl⟩
  · obtain ⟨f, h1, rfl⟩ := lamQ_o h
    obtain ⟨x, hx1, hP⟩ := hp_arr hk hH h1
    cases hx1
    exact ⟨_, hP 0 _ rfl, rfl, rfl, arrV_read (G.2.1 t) (fun j => va_rf (f j)) (Nat.zero_lt_one)⟩
  · obtain ⟨f, h1, rfl⟩ := lamI_o h
    obtain ⟨x, hx1, hP⟩ := hp_arr hk hH h1
    cases hx1
    exact ⟨_, hP 0 _ rfl, rfl, rfl, arrV_read (G.2.1 t) (fun j => .int (f j)) (Nat.zero_lt_one)⟩
theorem g_lamIs1 {σ : Lambda.Shape} {caller own nm nm0 ds0 : String} {D : ClassFile} {fw : Method} {F : Array Field × Array FieldType × Array FieldType} {ret : FieldType} {mnt mcn fci fnt pcs idx index count maxL nL fr lo fr' lo' C9 N mc ms b t : Nat} {xm x y : MethodName} {one o : Option Nat} {bytes : ByteArray} {ret' : Option FieldType} {cv xv : Value} {r : Int32} {S S2 : gS} {st0 st1 : List Value}
    (hc : gC p s m args meth c G own nm cc nL ret') (hk : rOK Rp) (hM : gMet l y bytes maxL (some ret) fr' lo' G Rp [cv, xv] S (some (.int r)) S2 C9 N) (hL : LamC σ caller D fw F lcode_cap ret 23 19 mnt mcn)
    (eF : D.constantPool[15]? = some (.fieldref fci fnt) ∧ D.constantPool.nameAndType? fnt = some (nm0, ds0) ∧ F.1.findIdx? (·.name == nm0) = some 0 ∧ (F.1[0]?).map (fun f => (f.isStatic, f.slot)) = some (false, 0))
    (hT : lamT xm pcs idx σ (G.2.1 t) one s) (hxm : xm.cls = caller) (hy : y = ⟨σ.implClass, σ.implName, σ.implDesc.toString⟩) (hxx : x = ⟨σ.iface, σ.name, σ.sam.toString⟩) (hlink : Cond.methodLink own index x ∈ lw_all) (hfx : gFace x s) (hxMH : x.cls ≠ "java/lang/invoke/MethodHandle" ∧ x.cls ≠ "java/lang/invoke/VarHandle")
    (hst : Cond.static y ∈ lw_all) (hcode : Cond.code y bytes maxL (some ret) ∈ lw_all) (hini : Cond.initialized y.cls ∈ lw_all) (hnx : (parseMethodDescriptor x.desc).map (fun d => d.parameters.length) = some 1) (hny : (parseMethodDescriptor y.desc).map (fun d => d.parameters.length) = some 2)
    (hcell : (∃ o, lamQ S b t = some o ∧ cv = va_rf o) ∨ (∃ i, lamI S b t = some i ∧ cv = .int i)) (hxr : xv.isRef = true) (hn : narrow ret (.int r) = .int r) (hti : ret = .int ∨ ret = .boolean) (hfr : fr' + 2 ≤ fr) (hlo : 8 + (2 + 11) + ((maxL + 11) + lo') ≤ lo) (eo : o = some b)
    (hsize : ls.size = nL) (hst0 : st0 = xv :: va_rf o :: rest) (hst1 : .int r :: rest = st1) (hW : 2 * (F0 m pc ls st0).monitorRoom + (rest.map fun v => v.category).sum ≤ 8) (hdg : decode cc pc = .ok (.invokeinterface index count, 5)) (hH : hp G Rp S H) (hS : va_S G.2.2.2 s.heap H locs) (hkc : kc + C9 ≤ mc) (hks : ks + N ≤ ms)
    (kk : ∀ (H1 : Heap) (locs1 : List Loc), hp G Rp S2 H1 → va_S G.2.2.2 s.heap H1 locs1 → W p l e (gR fr lo mc ms) s m args below meth c H1 locs1 (kc + C9) (ks + N) Q (F0 m (pc + 5) ls st1)) : W p l e (gR fr lo mc ms) s m args below meth c H locs kc ks Q (F0 m pc ls st0) := by
  subst eo
  obtain ⟨hx, hb, hr, hlk, hml, hown, hts, hE, hA, hnm⟩ := hc
  obtain ⟨cell, z1, z2, z3, z4⟩ := lam_cell hE hk hH hcell
  have hG := lw_meth hcode
  refine g_call5 (rest := rest) (a := #[cv, xv]) (lam_run1 (rm := gR fr' lo' C9 N) (bytes := bytes) (maxL := maxL) (rt := some ret) hx hb hml hown hL ld_cap_0 ld_cap_1 ld_cap_4 ld_cap_5 ld_cap_8 eF hT hxm (hts _ q3371) hy hxx (hts _ hlink) (va_any rfl hfx.1) (va_any rfl hfx.2) hxMH (hts _ hst) (hts _ hcode) (hts _ hini)
    (fun w h a' U hW => word_at hW (hG w h).2 (hts w (hG w h).1)) List.mem_cons_self hnx hny hM g_blind rfl rfl z1 z2 z3 z4 hxr (g_pre (av := [cv, xv]) hE hA hH hS) (fun a st o t h => h.1) hn hti rfl hsize hst0 hW hdg ⟨hkc, hks⟩ hfr hlo) hS hst1 kk
theorem g_lamIs0 {σ : Lambda.Shape} {caller own nm : String} {D : ClassFile} {fw : Method} {F : Array Field × Array FieldType × Array FieldType} {ret : FieldType} {mnt mcn pcs idx index count maxL nL fr lo fr' lo' C9 N mc ms b t : Nat} {xm x y : MethodName} {one o : Option Nat} {bytes : ByteArray} {ret' : Option FieldType} {xv : Value} {r : Int32} {S S2 : gS} {st0 st1 : List Value}
    (hc : gC p s m args meth c G own nm cc nL ret') (hk : rOK Rp) (hM : gMet l y bytes maxL (some ret) fr' lo' G Rp [xv] S (some (.int r)) S2 C9 N) (hL : LamC σ caller D fw F lcode_none ret 17 14 mnt mcn)
    (hT : lamT xm pcs idx σ (G.2.1 t) one s) (hxm : xm.cls = caller) (hy : y = ⟨σ.implClass, σ.implName, σ.implDesc.toString⟩) (hxx : x = ⟨σ.iface, σ.name, σ.sam.toString⟩) (hlink : Cond.methodLink own index x ∈ lw_all) (hfx : gFace x s) (hxMH : x.cls ≠ "java/lang/invoke/MethodHandle" ∧ x.cls ≠ "java/lang/invoke/VarHandle")
    (hst : Cond.static y ∈ lw_all) (hcode : Cond.code y bytes maxL (some ret) ∈ lw_all) (hini : Cond.initialized y.cls ∈ lw_all) (hnx : (parseMethodDescriptor x.desc).map (fun d => d.parameters.length) = some 1) (hny : (parseMethodDescriptor y.desc).map (fun d => d.parameters.length) = some 1)
    (hone : gOne b (G.2.1 t) G.2.2.2 s.heap) (hxr : xv.isRef = true) (hn : narrow ret (.int r) = .int r) (hti : ret = .int ∨ ret = .boolean) (hfr : fr' + 2 ≤ fr) (hlo : 8 + (2 + 11) + ((maxL + 11) + lo') ≤ lo) (eo : o = some b)
    (hsize : ls.size = nL) (hst0 : st0 = xv :: va_rf o :: rest) (hst1 : .int r :: rest = st1) (hW : 2 * (F0 m pc ls st0).monitorRoom + (rest.map fun v => v.category).sum ≤ 8) (hdg : decode cc pc = .ok (.invokeinterface index count, 5)) (hH : hp G Rp S H) (hS : va_S G.2.2.2 s.heap H locs) (hkc : kc + C9 ≤ mc) (hks : ks + N ≤ ms)
    (kk : ∀ (H1 : Heap) (locs1 : List Loc), hp G Rp S2 H1 → va_S G.2.2.2 s.heap H1 locs1 → W p l e (gR fr lo mc ms) s m args below meth c H1 locs1 (kc + C9) (ks + N) Q (F0 m (pc + 5) ls st1)) : W p l e (gR fr lo mc ms) s m args below meth c H locs kc ks Q (F0 m pc ls st0) := by
  subst eo
  obtain ⟨hx, hb, hr, hlk, hml, hown, hts, hE, hA, hnm⟩ := hc
  obtain ⟨cell, z1, z2, z3, z4⟩ := hone
  have z1' : H[b]? = some cell := (hS.2.1 b (Array.getElem?_eq_some_iff.mp z1).1 z4).trans z1
  have hG := lw_meth hcode
  refine g_call5 (rest := rest) (a := #[xv]) (lam_run0 (rm := gR fr' lo' C9 N) (bytes := bytes) (maxL := maxL) (rt := some ret) hx hb hml hown hL ld_none_0 ld_none_1 ld_none_4 hT hxm (hts _ q3371) hy hxx (hts _ hlink) (va_any rfl hfx.1) (va_any rfl hfx.2) hxMH (hts _ hst) (hts _ hcode) (hts _ hini)
    (fun w h a' U hW => word_at hW (hG w h).2 (hts w (hG w h).1)) List.mem_cons_self hnx hny hM g_blind rfl rfl z1' z2 z3 hxr (g_pre (av := [xv]) hE hA hH hS) (fun a st o t h => h.1) hn hti rfl hsize hst0 hW hdg ⟨hkc, hks⟩ hfr hlo) hS hst1 kk
theorem g_lamIs2 {σ : Lambda.Shape} {caller own nm nm0 ds0 : String} {D : ClassFile} {fw : Method} {F : Array Field × Array FieldType × Array FieldType} {ret : FieldType} {mnt mcn fci fnt pcs idx index count maxL nL fr lo fr' lo' C9 N mc ms b t ca ci : Nat} {q : vw_C} {fs : List Value} {xm x y : MethodName} {one o : Option Nat} {bytes : ByteArray} {ret' : Option FieldType} {xv : Value} {r : Int32} {S S2 : gS} {st0 st1 : List Value}
    (hc : gC p s m args meth c G own nm cc nL ret') (hk : rOK Rp) (hM : gMet l y bytes maxL (some ret) fr' lo' G Rp [.ref ca, xv] S (some (.int r)) S2 C9 N) (hL : LamC σ caller D fw F lcode_virt ret 22 19 mnt mcn)
    (eF : D.constantPool[15]? = some (.fieldref fci fnt) ∧ D.constantPool.nameAndType? fnt = some (nm0, ds0) ∧ F.1.findIdx? (·.name == nm0) = some 0 ∧ (F.1[0]?).map (fun f => (f.isStatic, f.slot)) = some (false, 0))
    (hT : lamT xm pcs idx σ (G.2.1 t) one s) (hxm : xm.cls = caller) (hy : y = ⟨σ.implClass, σ.implName, σ.implDesc.toString⟩) (hxx : x = ⟨σ.iface, σ.name, σ.sam.toString⟩) (hlink : Cond.methodLink own index x ∈ lw_all) (hfx : gFace x s) (hxMH : x.cls ≠ "java/lang/invoke/MethodHandle" ∧ x.cls ≠ "java/lang/invoke/VarHandle")
    (hinst : Cond.instanceMethod y ∈ lw_all) (hsel : Cond.selects y.cls y y ∈ lw_all) (hq : gCl[ci]? = some q) (hqy : q.1 = y.cls) (hca : S.1 ca = some (cO ci fs)) (hcode : Cond.code y bytes maxL (some ret) ∈ lw_all) (hini : Cond.initialized y.cls ∈ lw_all) (hnx : (parseMethodDescriptor x.desc).map (fun d => d.parameters.length) = some 1) (hny : (parseMethodDescriptor y.desc).map (fun d => d.parameters.length) = some 1)
    (hcell : lamQ S b t = some (some ca)) (hxr : xv.isRef = true) (hn : narrow ret (.int r) = .int r) (hti : ret = .int ∨ ret = .boolean) (hfr : fr' + 2 ≤ fr) (hlo : 8 + (2 + 11) + ((maxL + 11) + lo') ≤ lo) (eo : o = some b)
    (hsize : ls.size = nL) (hst0 : st0 = xv :: va_rf o :: rest) (hst1 : .int r :: rest = st1) (hW : 2 * (F0 m pc ls st0).monitorRoom + (rest.map fun v => v.category).sum ≤ 8) (hdg : decode cc pc = .ok (.invokeinterface index count, 5)) (hH : hp G Rp S H) (hS : va_S G.2.2.2 s.heap H locs) (hkc : kc + C9 ≤ mc) (hks : ks + N ≤ ms)
    (kk : ∀ (H1 : Heap) (locs1 : List Loc), hp G Rp S2 H1 → va_S G.2.2.2 s.heap H1 locs1 → W p l e (gR fr lo mc ms) s m args below meth c H1 locs1 (kc + C9) (ks + N) Q (F0 m (pc + 5) ls st1)) : W p l e (gR fr lo mc ms) s m args below meth c H locs kc ks Q (F0 m pc ls st0) := by
  subst eo
  obtain ⟨hx, hb, hr, hlk, hml, hown, hts, hE, hA, hnm⟩ := hc
  obtain ⟨cell, z1, z2, z3, z4⟩ := lam_cell (cv := .ref ca) hE hk hH (Or.inl ⟨_, hcell, rfl⟩)
  obtain ⟨cellC, w1, w2, w3⟩ := g_recv hE hk hH hq hca
  rw [hqy] at w3
  have hG := lw_meth hcode
  refine g_call5 (rest := rest) (a := #[.ref ca, xv]) (lam_run2 (rm := gR fr' lo' C9 N) (bytes := bytes) (maxL := maxL) (rt := some ret) hx hb hml hown hL ld_virt_0 ld_virt_1 ld_virt_4 ld_virt_5 ld_virt_8 eF hT hxm (hts _ q3371) hy hxx (hts _ hlink) (va_any rfl hfx.1) (va_any rfl hfx.2) hxMH (hts _ hinst) (hts _ hsel) w1 w2 w3 rfl (hts _ hcode) (hts _ hini)
    (fun w h a' U hW => word_at hW (hG w h).2 (hts w (hG w h).1)) List.mem_cons_self hnx hny hM g_blind rfl rfl z1 z2 z3 z4 hxr (g_pre (av := [.ref ca, xv]) hE hA hH hS) (fun a st o t h => h.1) hn hti rfl hsize hst0 hW hdg ⟨hkc, hks⟩ hfr hlo) hS hst1 kk
end LAMW
