/-! ROWS of the JDK's own methods: constants among strings, byte arrays, Integers, rows of objects; copies; class objects -/
set_option maxRecDepth 100000
set_option maxHeartbeats 4000000
/-- which constant text, constant row of bytes, cached Integer an address is -/
def sK (G : gG) (a : Nat) : Option Nat := if a = G.2.2.1 3 then some 0 else if a = G.2.2.1 4 then some 1 else if a = G.2.2.1 5 then some 2 else none
def bK (G : gG) (a : Nat) : Option Nat := if a = G.2.2.1 10 then some 0 else if a = G.2.2.1 11 then some 1 else if a = G.2.2.1 12 then some 2 else none
def iK (G : gG) (a : Nat) : Option Nat := (List.range 256).find? (fun j => decide (a = G.2.2.1 (200 + j)))
theorem sK_o {G : gG} {a i : Nat} (h : sK G a = some i) : i < 3 ∧ a = G.2.2.1 (3 + i) := by
  unfold sK at h
  split at h
  next e => cases h; exact ⟨by decide, e⟩
  next =>
    split at h
    next e => cases h; exact ⟨by decide, e⟩
    next =>
      split at h
      next e => cases h; exact ⟨by decide, e⟩
      next => cases h
theorem bK_o {G : gG} {a i : Nat} (h : bK G a = some i) : i < 3 ∧ a = G.2.2.1 (10 + i) := by
  unfold bK at h
  split at h
  next e => cases h; exact ⟨by decide, e⟩
  next =>
    split at h
    next e => cases h; exact ⟨by decide, e⟩
    next =>
      split at h
      next e => cases h; exact ⟨by decide, e⟩
      next => cases h
theorem iK_o {G : gG} {a j : Nat} (h : iK G a = some j) : j < 256 ∧ a = G.2.2.1 (200 + j) :=
  ⟨List.mem_range.mp (List.mem_of_find?_eq_some h), of_decide_eq_true (List.find?_some (p := fun j => decide (a = G.2.2.1 (200 + j))) h)⟩
def strV (G : gG) (S : gS) (a : Nat) : Option (Option Nat) := match sK G a with
  | some i => some (some (G.2.2.1 (10 + i)))
  | none => rdR S a 25 0
def strC (G : gG) (S : gS) (a : Nat) : Option Int32 := match sK G a with
  | some _ => some 0
  | none => rdI S a 25 1
def lenB (G : gG) (S : gS) (a : Nat) : Option Int32 := match bK G a with
  | some i => some (nI (gStrLen.getD i 0))
  | none => lenT S a 2
def rdB (G : gG) (S : gS) (a : Nat) (i : Int32) : Option Int32 := match bK G a with
  | some k => if i < 0 ∨ gStrLen.getD k 0 ≤ i.toNatClampNeg then none else some ((gStrByt.getD k []).getD i.toNatClampNeg 0)
  | none => rdAi S a 2 i
def lenQ (G : gG) (S : gS) (a : Nat) : Option Int32 := if a = G.2.2.1 1 then some (nI 0) else lenT S a 5
def intV (G : gG) (S : gS) (a : Nat) : Option Int32 := match iK G a with
  | some j => some (vb_c j)
  | none => rdI S a 26 0
/-- what may lie in a row of objects -/
def anyO (G : gG) (S : gS) (y : Nat) : Bool := (match S.1 y with
  | some (.inl q) => decide (q.1 = 3 ∨ q.1 = 4 ∨ q.1 = 5 ∨ q.1 = 6 ∨ q.1 = 7 ∨ q.1 = 25 ∨ q.1 = 26)
  | _ => false) || (iK G y).isSome || (sK G y).isSome
def cpyQ (G : gG) (S : gS) (a0 : Nat) (sp : Int32) (a1 : Nat) (dp n : Int32) : Option gS :=
  if a0 = G.2.2.1 1 then (match S.1 a1 with
    | some (.inr (.inl (t, n1, .inr (.inr _)))) => if t = 5 ∧ ¬ sp < 0 ∧ ¬ dp < 0 ∧ ¬ n < 0 ∧ sp.toNatClampNeg + n.toNatClampNeg ≤ 0 ∧ dp.toNatClampNeg + n.toNatClampNeg ≤ n1 then some S else none
    | _ => none)
  else match S.1 a0, S.1 a1 with
    | some (.inr (.inl (t0, n0, .inr (.inr f)))), some (.inr (.inl (t1, n1, .inr (.inr g)))) =>
      if t0 = 5 ∧ t1 = 5 ∧ ¬ sp < 0 ∧ ¬ dp < 0 ∧ ¬ n < 0 ∧ sp.toNatClampNeg + n.toNatClampNeg ≤ n0 ∧ dp.toNatClampNeg + n.toNatClampNeg ≤ n1 ∧ (List.range n.toNatClampNeg).all (fun i => match f (sp.toNatClampNeg + i) with
        | some y => anyO G S y
        | none => true) = true then some (gup S.1 a1 (cAq 5 n1 (va_cpy f g sp.toNatClampNeg dp.toNatClampNeg n.toNatClampNeg)), S.2) else none
    | _, _ => none
def cpyB (S : gS) (t a0 : Nat) (sp : Int32) (a1 : Nat) (dp n : Int32) : Option gS := match S.1 a0, S.1 a1 with
  | some (.inr (.inl (t0, n0, .inl f))), some (.inr (.inl (t1, n1, .inl g))) =>
    if t < 5 ∧ t0 = t ∧ t1 = t ∧ ¬ sp < 0 ∧ ¬ dp < 0 ∧ ¬ n < 0 ∧ sp.toNatClampNeg + n.toNatClampNeg ≤ n0 ∧ dp.toNatClampNeg + n.toNatClampNeg ≤ n1 ∧ (List.range n.toNatClampNeg).all (fun i => fits ((gTy (fun _ => 0)).getD t (0, .int)).2 (.int (f (sp.toNatClampNeg + i)))) = true then some (gup S.1 a1 (cAi t n1 (va_cpy f g sp.toNatClampNeg dp.toNatClampNeg n.toNatClampNeg)), S.2) else none
  | _, _ => none
/-- a copy out of a constant's bytes -/
def cpyK (G : gG) (S : gS) (a0 : Nat) (sp : Int32) (a1 : Nat) (dp n : Int32) : Option gS := match bK G a0, S.1 a1 with
  | some k, some (.inr (.inl (t1, n1, .inl g))) =>
    if t1 = 2 ∧ ¬ sp < 0 ∧ ¬ dp < 0 ∧ ¬ n < 0 ∧ sp.toNatClampNeg + n.toNatClampNeg ≤ gStrLen.getD k 0 ∧ dp.toNatClampNeg + n.toNatClampNeg ≤ n1 ∧ (List.range n.toNatClampNeg).all (fun i => fits .byte (.int ((gStrByt.getD k []).getD (sp.toNatClampNeg + i) 0))) = true then some (gup S.1 a1 (cAi 2 n1 (va_cpy (fun j => (gStrByt.getD k []).getD j 0) g sp.toNatClampNeg dp.toNatClampNeg n.toNatClampNeg)), S.2) else none
  | none, _ => cpyB S 2 a0 sp a1 dp n
  | _, _ => none
/-- the clone of a row of bytes -/
def clnB {β : Type} (S : gS) (a : Nat) (k : gS → gO β) : gO β := match S.1 a with
  | some (.inr (.inl (t, n, .inl f))) => if t = 2 ∧ (List.range n).all (fun i => fits .byte (.int (f i))) = true then nw S (cAi 2 n f) n k else none
  | _ => none
theorem clnBo {β : Type} {S : gS} {a : Nat} {k : gS → gO β} {r : β} {Sf : gS} {C N : Nat} (h : clnB S a k = some (r, Sf, C, N)) : ∃ n f, S.1 a = some (cAi 2 n f) ∧ (∀ i, i < n → fits .byte (.int (f i)) = true) ∧ ∃ S1 c2 n2, S1 = mk S (cAi 2 n f) ∧ k S1 = some (r, Sf, c2, n2) ∧ C = 1 + c2 ∧ N = n + n2 := by
  unfold clnB at h
  split at h
  next t n f hq =>
    split at h
    next e =>
      obtain ⟨rfl, e2⟩ := e
      exact ⟨n, f, hq, fun i hi => List.all_eq_true.mp e2 i (List.mem_range.mpr hi), nwo h⟩
    next => cases h
  next => cases h
section
variable {p : Program} {l : Launch} {e : Env} {s : State} {m : MethodId} {args : Array Value} {below : List Frame} {meth : Method} {c : Code} {G : gG} {Rp : gM → gM → Nat → Prop} {R : Room} {H : Heap} {locs : List Loc} {Q : State → Prop} {cc : ByteArray} {ls : Array Slot} {rest : List Value} {pc : Nat} {kc ks : Nat}
theorem hp_ws2 (hk : rOK Rp) {S : gS} {a : Nat} {c : Cel} {e : va_E} (h : hp G Rp S H) (e1 : S.1 a = some c) (he : toE G.2.1 c = some e) :
    ∃ (ws : va_W) (i : Nat), va_P G.1 gCl ws H ∧ va_D G.2.2.2 ws ∧ ws[i]? = some (a, e) ∧ (∀ b d x, S.1 b = some d → toE G.2.1 d = some x → ∃ j : Nat, ws[j]? = some (b, x)) ∧ ∀ (c' : Cel) (e' : va_E) (H1 : Heap), toE G.2.1 c' = some e' → H1.size = H.size → va_P G.1 gCl (ws.set i (a, e')) H1 → va_D G.2.2.2 (ws.set i (a, e')) → sameK c c' → hp G Rp (gup S.1 a c', S.2) H1 := by
  obtain ⟨M, ⟨ws, hP, hD, hw⟩, hz, hr⟩ := h
  have hMc : ∀ b d x, S.1 b = some d → toE G.2.1 d = some x → M b = some d := fun b d x h1 h2 => by
    cases d with
    | inl o => exact hk.1 _ _ _ _ _ hr h1
    | inr o =>
      cases o with
      | inl o => exact hk.2.1 _ _ _ _ _ hr h1
      | inr o => cases h2
  obtain ⟨x, hx, hm⟩ := hw a _ (hMc _ _ _ e1 he)
  have hxe : x = e := Option.some.inj (hx.symm.trans he)
  subst hxe
  obtain ⟨i, hi⟩ := List.getElem?_of_mem hm
  refine ⟨ws, i, hP, hD, hi, fun b d y h1 h2 => ?_, fun c' e' H1 h1 h2 h3 h4 h5 => ⟨gup M a c', ⟨ws.set i (a, e'), h3, h4, ?_⟩, h2.trans hz, ?_⟩⟩
  · obtain ⟨z, hz1, hz2⟩ := hw b _ (hMc _ _ _ h1 h2)
    cases Option.some.inj (hz1.symm.trans h2)
    exact List.getElem?_of_mem hz2
  · intro b d hb
    by_cases hba : b = a
    · subst hba
      rw [gup_s] at hb
      cases hb
      exact ⟨e', h1, List.mem_of_getElem? (List.getElem?_set_self (List.getElem?_eq_some_iff.mp hi).1)⟩
    · rw [gup_n M c' hba] at hb
      obtain ⟨y, hy, hmy⟩ := hw b d hb
      refine ⟨y, hy, ?_⟩
      obtain ⟨j, hj⟩ := List.getElem?_of_mem hmy
      have hij : i ≠ j := fun q => by
        subst q
        rw [hi] at hj
        cases hj
        exact hba rfl
      exact List.mem_of_getElem? ((List.getElem?_set_ne hij).trans hj)
  · exact hk.2.2.1 _ _ _ _ _ _ G.2.1 hr e1 h5 (by rw [hx]; simp) (by rw [h1]; simp)
theorem g_strV {own : String} {index : Nat} {o v : Option Nat} {a : Nat} {S : gS} (hx : p.tables.exec = Jvm.exec) (hb : c.code = cc) (hts : ∀ w ∈ lw_all, w.before args s = true) (hown : s.vm.findClass own = some m.cls) (hE : gE G s s.heap) (hk : rOK Rp) (hH : hp G Rp S H) (hS : va_S G.2.2.2 s.heap H locs) (hlink : Cond.fieldLink own index "java/lang/String" "value" "[B" ∈ lw_all) (eo : o = some a) (e1 : strV G S a = some v) (hdg : decode cc pc = .ok (.getfield index, 3))
    (kk : W p l e R s m args below meth c H locs kc ks Q (F0 m (pc + 3) ls (va_rf v :: rest))) : W p l e R s m args below meth c H locs kc ks Q (F0 m pc ls (va_rf o :: rest)) := by
  unfold strV at e1
  split at e1
  next i hi =>
    obtain ⟨h1, h2⟩ := sK_o hi
    cases e1
    subst eo
    subst h2
    exact vk_getf hx hb (hE.2.2.2.1.2.2.2.2.1 i h1).2.2.1 hS hown (hts _ hlink) (fun _ h9 => h9) hdg kk
  next => exact g_get (ci := 25) (k := 0) (C := RJ9) (T := TJ9) (N := 4) hx hb hts hown hE hk hH in_J9 rfl (by decide) (hts _ hlink) (fun _ h9 => h9) eo (rdR_o e1) hdg kk
theorem g_strC {own : String} {index : Nat} {o : Option Nat} {a : Nat} {v : Int32} {S : gS} (hx : p.tables.exec = Jvm.exec) (hb : c.code = cc) (hts : ∀ w ∈ lw_all, w.before args s = true) (hown : s.vm.findClass own = some m.cls) (hE : gE G s s.heap) (hk : rOK Rp) (hH : hp G Rp S H) (hS : va_S G.2.2.2 s.heap H locs) (hlink : Cond.fieldLink own index "java/lang/String" "coder" "B" ∈ lw_all) (eo : o = some a) (e1 : strC G S a = some v) (hdg : decode cc pc = .ok (.getfield index, 3))
    (kk : W p l e R s m args below meth c H locs kc ks Q (F0 m (pc + 3) ls (.int v :: rest))) : W p l e R s m args below meth c H locs kc ks Q (F0 m pc ls (va_rf o :: rest)) := by
  unfold strC at e1
  split at e1
  next i hi =>
    obtain ⟨h1, h2⟩ := sK_o hi
    cases e1
    subst eo
    subst h2
    exact vk_getf hx hb (hE.2.2.2.1.2.2.2.2.1 i h1).2.1 hS hown (hts _ hlink) (fun _ h9 => h9) hdg kk
  next => exact g_get (ci := 25) (k := 1) (C := RJ9) (T := TJ9) (N := 4) hx hb hts hown hE hk hH in_J9 rfl (by decide) (hts _ hlink) (fun _ h9 => h9) eo (rdI_o e1) hdg kk
theorem g_lenB {o : Option Nat} {a : Nat} {v : Int32} {S : gS} (hx : p.tables.exec = Jvm.exec) (hb : c.code = cc) (hE : gE G s s.heap) (hk : rOK Rp) (hH : hp G Rp S H) (hS : va_S G.2.2.2 s.heap H locs) (eo : o = some a) (e1 : lenB G S a = some v) (hdg : decode cc pc = .ok (.arraylength, 1))
    (kk : W p l e R s m args below meth c H locs kc ks Q (F0 m (pc + 1) ls (.int v :: rest))) : W p l e R s m args below meth c H locs kc ks Q (F0 m pc ls (va_rf o :: rest)) := by
  unfold lenB at e1
  split at e1
  next i hi =>
    obtain ⟨h1, h2⟩ := bK_o hi
    cases e1
    subst eo
    subst h2
    exact va_tlen hx hb (hE.2.2.2.1.2.2.2.2.1 i h1).2.2.2 hS rfl hdg kk
  next => exact g_alen (t := 2) hx hb hE hk hH rfl eo e1 hdg kk
theorem g_rdB {o : Option Nat} {a : Nat} {i v : Int32} {S : gS} (hx : p.tables.exec = Jvm.exec) (hb : c.code = cc) (hE : gE G s s.heap) (hk : rOK Rp) (hH : hp G Rp S H) (hS : va_S G.2.2.2 s.heap H locs) (eo : o = some a) (e1 : rdB G S a i = some v) (hdg : decode cc pc = .ok (.baload, 1))
    (kk : W p l e R s m args below meth c H locs kc ks Q (F0 m (pc + 1) ls (.int v :: rest))) : W p l e R s m args below meth c H locs kc ks Q (F0 m pc ls (.int i :: va_rf o :: rest)) := by
  unfold rdB at e1
  split at e1
  next k hi =>
    obtain ⟨h1, h2⟩ := bK_o hi
    subst eo
    subst h2
    split at e1
    next => cases e1
    next h3 =>
      cases e1
      exact va_tb hx hb (hE.2.2.2.1.2.2.2.2.1 k h1).2.2.2 hS h3 rfl hdg kk
  next => exact g_bald hx hb hE hk hH eo e1 hdg kk
theorem g_lenQ {o : Option Nat} {a : Nat} {v : Int32} {S : gS} (hx : p.tables.exec = Jvm.exec) (hb : c.code = cc) (hE : gE G s s.heap) (hk : rOK Rp) (hH : hp G Rp S H) (hS : va_S G.2.2.2 s.heap H locs) (eo : o = some a) (e1 : lenQ G S a = some v) (hdg : decode cc pc = .ok (.arraylength, 1))
    (kk : W p l e R s m args below meth c H locs kc ks Q (F0 m (pc + 1) ls (.int v :: rest))) : W p l e R s m args below meth c H locs kc ks Q (F0 m pc ls (va_rf o :: rest)) := by
  unfold lenQ at e1
  split at e1
  next h2 =>
    cases e1
    subst eo
    subst h2
    exact va_tlen hx hb hE.2.2.2.2.2.1.2 hS rfl hdg kk
  next => exact g_alen (t := 5) hx hb hE hk hH rfl eo e1 hdg kk
theorem g_intV {own : String} {index : Nat} {o : Option Nat} {a : Nat} {v : Int32} {S : gS} (hx : p.tables.exec = Jvm.exec) (hb : c.code = cc) (hts : ∀ w ∈ lw_all, w.before args s = true) (hown : s.vm.findClass own = some m.cls) (hE : gE G s s.heap) (hk : rOK Rp) (hH : hp G Rp S H) (hS : va_S G.2.2.2 s.heap H locs) (hlink : Cond.fieldLink own index "java/lang/Integer" "value" "I" ∈ lw_all) (eo : o = some a) (e1 : intV G S a = some v) (hdg : decode cc pc = .ok (.getfield index, 3))
    (kk : W p l e R s m args below meth c H locs kc ks Q (F0 m (pc + 3) ls (.int v :: rest))) : W p l e R s m args below meth c H locs kc ks Q (F0 m pc ls (va_rf o :: rest)) := by
  unfold intV at e1
  split at e1
  next j hj =>
    obtain ⟨h1, h2⟩ := iK_o hj
    cases e1
    subst eo
    subst h2
    exact va_getX (i := j) (v := fun k => .int (vb_c k)) (ad := fun j => G.2.2.1 (200 + j)) hx hb hE.2.2.2.2.2.2.1.2.2.2.2 h1 hS hown (hts _ hlink) (fun _ h9 => h9) hdg kk
  next => exact g_get (ci := 26) (k := 0) (C := RJ23) (T := TJ23) (N := 1) hx hb hts hown hE hk hH in_J23 rfl (by decide) (hts _ hlink) (fun _ h9 => h9) eo (rdI_o e1) hdg kk
theorem g_any (hE : gE G s s.heap) (hk : rOK Rp) {S : gS} {y : Nat} (hH : hp G Rp S H) (hS : va_S G.2.2.2 s.heap H locs) (h : anyO G S y = true) : va_Any "java/lang/Object" s H y := by
  unfold anyO at h
  rcases Bool.or_eq_true _ _ ▸ h with h | h
  · rcases Bool.or_eq_true _ _ ▸ h with h | h
    · split at h
      next q hq =>
        obtain ⟨ci, fs⟩ := q
        have hP := hp_obj hk hH hq
        have key : ∀ r : vw_C, gCl[ci]? = some r → va_Nw (.castable r.1 "java/lang/Object") s → va_Any "java/lang/Object" s H y := fun r h1 h2 => va_rAny hE.1 hP (q0 := 0) rfl h1 (vb_asgC h2)
        rcases of_decide_eq_true h with rfl | rfl | rfl | rfl | rfl | rfl | rfl
        · exact key _ rfl (hE.2.1.1 _ _ q3329)
        · exact key _ rfl (hE.2.1.1 _ _ q3337)
        · exact key _ rfl (hE.2.1.1 _ _ q3333)
        · exact key _ rfl (hE.2.1.1 _ _ q3331)
        · exact key _ rfl (hE.2.1.1 _ _ q3335)
        · exact key _ rfl (hE.2.1.1 _ _ q3324)
        · exact key _ rfl (hE.2.1.1 _ _ q3351)
      next => cases h
    · obtain ⟨j, hj⟩ := Option.isSome_iff_exists.mp h
      obtain ⟨h1, h2⟩ := iK_o hj
      subst h2
      obtain ⟨cell, g1, g2, g3, -⟩ := (hE.2.2.2.2.2.2.1.2.2.2.1 j h1).kept hS.2.1
      obtain ⟨kC, hkC, -⟩ := Vm.findClass_spec g3
      exact ⟨cell, g1, g2, ⟨kC, hkC⟩, fun comp hc => vb_asgC (hE.2.1.1 _ _ q3351) comp _ hc g3⟩
  · obtain ⟨j, hj⟩ := Option.isSome_iff_exists.mp h
    obtain ⟨h1, h2⟩ := sK_o hj
    subst h2
    obtain ⟨cell, g1, g2, g3, -⟩ := ((hE.2.2.2.1.2.2.2.2.1 j h1).1).kept hS.2.1
    obtain ⟨kC, hkC, -⟩ := Vm.findClass_spec g3
    exact ⟨cell, g1, g2, ⟨kC, hkC⟩, fun comp hc => vb_asgC (hE.2.1.1 _ _ q3324) comp _ hc g3⟩
theorem gc_upd (c0 : ClassId) (n j : Nat) (f : Nat → Option Nat) (v : Option Nat) : (vp_cell c0 (n, .inr (.inr (.inr (.inr f))))).setSlot j (va_rf v) = vp_cell c0 (n, .inr (.inr (.inr (.inr (va_up f j v))))) := by
  rw [vp_cell_q, vp_cell_q, arrV_store]
  congr 2
  funext w
  by_cases hq : w = j
  · subst hq
    simp [updV, va_up]
  · simp [updV, va_up, hq]
theorem g_aastM {o vo : Option Nat} {a v : Nat} {i : Int32} {S S' : gS} (hx : p.tables.exec = Jvm.exec) (hb : c.code = cc) (hE : gE G s s.heap) (hk : rOK Rp) (hH : hp G Rp S H) (hS : va_S G.2.2.2 s.heap H locs) (eo : o = some a) (ev : vo = some v) (e9 : anyO G S v = true) (e1 : wrAq S a 5 i (some v) = some S') (hdg : decode cc pc = .ok (.aastore, 1))
    (kk : ∀ (H1 : Heap) (locs1 : List Loc), hp G Rp S' H1 → va_S G.2.2.2 s.heap H1 locs1 → W p l e R s m args below meth c H1 locs1 kc ks Q (F0 m (pc + 1) ls rest)) : W p l e R s m args below meth c H locs kc ks Q (F0 m pc ls (va_rf vo :: .int i :: va_rf o :: rest)) := by
  subst eo
  subst ev
  obtain ⟨n, f, e2, e3, rfl⟩ := wrAq_o e1
  obtain ⟨ws, j, hP, hD, hi, hback⟩ := hp_ws hk hH e2 rfl
  obtain ⟨cellV, g1, g3, ⟨kC, hkC⟩, hasg⟩ := g_any hE hk hH hS e9
  obtain ⟨kA, comp, k1, k2, k3, -⟩ := (hE.1.2 5 _ rfl).2
  obtain ⟨kE, hkE, -⟩ := Vm.findClass_spec k3
  have hlt : i.toNatClampNeg < n := Nat.not_le.mp fun z => e3 (Or.inr z)
  have h0 : ¬ i < 0 := fun z => e3 (Or.inl z)
  refine W.aast hx hb (hP j _ hi) (fun q h => by cases h) (fun h => by cases h) k1 k2 rfl hkE ⟨h0, by show _ < (arrV _ _ _).slots.size; rw [arrV_size]; exact hlt⟩ g1 (fun q h => by rw [h] at g3; cases g3) hkC (hasg _ k3) rfl rfl hdg fun H1 y1 z oq => ?_
  refine kk H1 _ (hback _ _ H1 rfl z (hP.set hD hi ?_ oq) (hD.set hi) rfl) (hS.put z oq (hD.2 j _ hi))
  show H1[a]? = some (vp_cell _ _)
  rw [y1]
  exact congrArg some (gc_upd _ _ _ f (some v))
theorem g_aastN {o : Option Nat} {a : Nat} {i : Int32} {S S' : gS} (hx : p.tables.exec = Jvm.exec) (hb : c.code = cc) (hE : gE G s s.heap) (hk : rOK Rp) (hH : hp G Rp S H) (hS : va_S G.2.2.2 s.heap H locs) (eo : o = some a) (e1 : wrAq S a 5 i none = some S') (hdg : decode cc pc = .ok (.aastore, 1))
    (kk : ∀ (H1 : Heap) (locs1 : List Loc), hp G Rp S' H1 → va_S G.2.2.2 s.heap H1 locs1 → W p l e R s m args below meth c H1 locs1 kc ks Q (F0 m (pc + 1) ls rest)) : W p l e R s m args below meth c H locs kc ks Q (F0 m pc ls (.null :: .int i :: va_rf o :: rest)) := by
  subst eo
  obtain ⟨n, f, e2, e3, rfl⟩ := wrAq_o e1
  obtain ⟨ws, j, hP, hD, hi, hback⟩ := hp_ws hk hH e2 rfl
  refine va_WaastN (C := "java/lang/Object") hx hb (hP j _ hi) ((hE.1.2 5 _ rfl).1 n (fun j => va_rf (f j))) (fun h => by cases h) (by show ¬ (i < 0 ∨ (arrV _ _ _).slots.size ≤ _); rw [arrV_size]; exact e3) rfl rfl hdg fun H1 y1 z oq => ?_
  refine kk H1 _ (hback _ _ H1 rfl z (hP.set hD hi ?_ oq) (hD.set hi) rfl) (hS.put z oq (hD.2 j _ hi))
  show H1[a]? = some (vp_cell _ _)
  rw [y1]
  exact congrArg some (gc_upd _ _ _ f none)
theorem gi_nn {z : Int32} (hz : ¬ z < 0) : z.toInt = (z.toNatClampNeg : Int) := by
  have hz0 : (0 : Int) ≤ z.toInt := by
    have := Int32.not_lt.mp hz
    simpa using Int32.le_iff_toInt_le.mp this
  show z.toInt = ((z.toInt.toNat : Nat) : Int)
  omega
theorem vpc_vm (c0 : ClassId) (x : vp_A) : (∀ k, (vp_cell c0 x).vm ≠ .statics k) ∧ (vp_cell c0 x).vm ≠ .unknown := by
  obtain ⟨n, f | f | f | f | f⟩ := x <;> exact ⟨(fun _ h => by cases h), (fun h => by cases h)⟩
abbrev acN : MethodName := ⟨"java/lang/System", "arraycopy", "(Ljava/lang/Object;ILjava/lang/Object;II)V"⟩
/-- System.arraycopy at the cells: the size of the heap stays -/
theorem g_acpy {own : String} {index src dst : Nat} {sp dp n : Int32} {cs cd : Cell} {k0 k1 : Class} {m0 m1 : ClassId} {t0 t1 : FieldType} (hx : p.tables.exec = Jvm.exec) (hb : c.code = cc) (hml : c.maxLocals = ls.size) (hown : s.vm.findClass own = some m.cls) (hts : ∀ w ∈ lw_all, w.before args s = true) (hlink : Cond.methodLink own index acN ∈ lw_all) (hnat : Cond.native acN ∈ lw_all) (hstat : Cond.static acN ∈ lw_all) (hini : Cond.initialized "java/lang/System" ∈ lw_all)
    (hcs : H[src]? = some cs) (hcd : H[dst]? = some cd) (hs1 : (∀ k, cs.vm ≠ .statics k) ∧ cs.vm ≠ .unknown) (hd1 : (∀ k, cd.vm ≠ .statics k) ∧ cd.vm ≠ .unknown) (hk0 : s.vm.classes[cs.cls]? = some k0) (hk1 : s.vm.classes[cd.cls]? = some k1) (hkk0 : k0.kind = .array m0 t0) (hkk1 : k1.kind = .array m1 t1) (hty : ((refKind t0 != refKind t1) || (!refKind t0 && t0 != t1)) = false)
    (h1 : ¬ sp < 0) (h2 : ¬ dp < 0) (h3 : ¬ n < 0) (h4 : sp.toNatClampNeg + n.toNatClampNeg ≤ cs.slots.size) (h5 : dp.toNatClampNeg + n.toNatClampNeg ≤ cd.slots.size)
    (hv : ∀ (T : State) (vm' : Vm), T.heap = H → s.vm.Alike vm' → ∀ i, i < n.toNatClampNeg → fits t1 (cs.slots.getD (sp.toNatClampNeg + i) .null) = true ∧ (T.setVm vm').takes m1 (cs.slots.getD (sp.toNatClampNeg + i) .null))
    (hfr : 1 ≤ R.frames) (hlo : (rest.map fun v => v.category).sum + 40 ≤ R.locals) (hdg : decode cc pc = .ok (.invokestatic index, 3))
    (kk : ∀ (H1 : Heap) (L : List Loc), H1[dst]? = some (copied cs cd sp dp n) → H1.size = H.size → (∀ q : Nat, q ≠ dst → H1[q]? = H[q]?) → (∀ z ∈ L, z.base = dst) → W p l e R s m args below meth c H1 (locs ++ L) kc ks Q (F0 m (pc + 3) ls rest)) : W p l e R s m args below meth c H locs kc ks Q (F0 m pc ls (.int n :: .int dp :: .ref dst :: .int sp :: .ref src :: rest)) := by
  intro T hT X
  obtain ⟨vm', X', step⟩ := X.arraycopy hx hown (hts _ hlink) (hts _ hnat) (hts _ hstat) (hts _ hini) (src := src) (dst := dst) (cs := cs) (cd := cd) (srcPos := sp) (destPos := dp) (n := n) (by rw [hT]; exact hcs) (by rw [hT]; exact hcd) hs1.1 hd1.1 hs1.2 hd1.2 hk0 hk1 hkk0 hkk1 hty h1 h2 h3
    (by rw [gi_nn h1, gi_nn h3]; omega) (by rw [gi_nn h2, gi_nn h3]; omega) (fun vm₁ hal i hi => hv T vm₁ hT hal i hi)
    (g := F0 m pc ls (.int n :: .int dp :: .ref dst :: .int sp :: .ref src :: rest)) rfl (by rw [hml]) (rest := rest) rfl (by rw [hb]; exact hdg) hfr (by show 2 * 0 + _ + _ ≤ _; have : nativeFrameWords "java/lang/System" "arraycopy" 5 ≤ 20 := (by decide); omega)
  have hl : dst < H.size := (Array.getElem?_eq_some_iff.mp hcd).1
  have hheap : ((T.setVm vm').setCell dst (copied cs cd sp dp n)).heap = H.setIfInBounds dst (copied cs cd sp dp n) := by rw [← hT]; rfl
  obtain ⟨t, a1, b1⟩ := kk _ _ (by simp [Array.getElem?_setIfInBounds, hl]) (by simp) (fun q hq => by simp [Array.getElem?_setIfInBounds, Ne.symm hq]) (fun z hz => by
    obtain ⟨y, -, hy⟩ := List.mem_map.mp hz
    rw [← hy]) _ hheap X'
  exact ⟨t, step t a1, b1⟩
theorem hS_put {a : Nat} {H1 : Heap} {L : List Loc} {ws : va_W} {i : Nat} {x : va_E} (hS : va_S G.2.2.2 s.heap H locs) (hD : va_D G.2.2.2 ws) (hi : ws[i]? = some (a, x)) (z : H1.size = H.size) (oq : ∀ q : Nat, q ≠ a → H1[q]? = H[q]?) (hL : ∀ z ∈ L, z.base = a) : va_S G.2.2.2 s.heap H1 (locs ++ L) := by
  have hA : G.2.2.2 a := hD.2 i _ hi
  refine ⟨by rw [z]; exact hS.1, fun q g1 g2 => ?_, fun q hq => ?_⟩
  · rw [oq q (fun e => g2 (by rw [e]; exact hA))]
    exact hS.2.1 q g1 g2
  · rcases List.mem_append.mp hq with h | h
    · exact hS.2.2 q h
    · rw [hL q h]; exact hA
theorem g_cpyB {own : String} {index t a0 a : Nat} {o0 o : Option Nat} {sp dp n : Int32} {S S' : gS} (hx : p.tables.exec = Jvm.exec) (hb : c.code = cc) (hml : c.maxLocals = ls.size) (hts : ∀ w ∈ lw_all, w.before args s = true) (hown : s.vm.findClass own = some m.cls) (hE : gE G s s.heap) (hk : rOK Rp) (hH : hp G Rp S H) (hS : va_S G.2.2.2 s.heap H locs) (hlink : Cond.methodLink own index acN ∈ lw_all) (hnat : Cond.native acN ∈ lw_all) (hstat : Cond.static acN ∈ lw_all) (hini : Cond.initialized "java/lang/System" ∈ lw_all) (eo0 : o0 = some a0) (eo : o = some a) (e1 : cpyB S t a0 sp a dp n = some S') (hfr : 1 ≤ R.frames) (hlo : (rest.map fun v => v.category).sum + 40 ≤ R.locals) (hdg : decode cc pc = .ok (.invokestatic index, 3))
    (kk : ∀ (H1 : Heap) (locs1 : List Loc), hp G Rp S' H1 → va_S G.2.2.2 s.heap H1 locs1 → W p l e R s m args below meth c H1 locs1 kc ks Q (F0 m (pc + 3) ls rest)) : W p l e R s m args below meth c H locs kc ks Q (F0 m pc ls (.int n :: .int dp :: va_rf o :: .int sp :: va_rf o0 :: rest)) := by
  subst eo
  subst eo0
  unfold cpyB at e1
  split at e1
  next t0 n0 f t1 n1 g q0 q1 =>
    split at e1
    next hq =>
      obtain ⟨h8, ht0, ht1, h1, h2, h3, h4, h5, h6⟩ := hq
      subst ht0
      replace ht1 := ht1.symm
      subst ht1
      cases e1
      obtain ⟨ws, i, hP, hD, hi, hoth, hback⟩ := hp_ws2 hk hH q1 rfl
      obtain ⟨j, hj⟩ := hoth a0 _ _ q0 rfl
      have key : ∀ ty : FieldType, (gTy G.2.1)[t0]? = some (G.2.1 t0, ty) → refKind ty = false → ((gTy (fun _ => 0)).getD t0 (0, .int)).2 = ty → W p l e R s m args below meth c H locs kc ks Q (F0 m pc ls (.int n :: .int dp :: va_rf (some a) :: .int sp :: va_rf (some a0) :: rest)) := by
        intro ty hty hpr hty2
        obtain ⟨-, k0, hk0, cm0, hkk0⟩ := (hE.1.2 t0 _ hty).1 n0 (fun j => .int (f j))
        refine g_acpy hx hb hml hown hts hlink hnat hstat hini (hP j _ hj) (hP i _ hi) (vpc_vm _ _) (vpc_vm _ _) hk0 hk0 hkk0 hkk0 (by simp) h1 h2 h3 (by show _ ≤ (arrV _ _ _).slots.size; rw [arrV_size]; exact h4) (by show _ ≤ (arrV _ _ _).slots.size; rw [arrV_size]; exact h5) ?_ hfr hlo hdg ?_
        · intro T vm' hT hal z hz
          have ev : (vp_cell (G.2.1 t0) (n0, .inl f)).slots.getD (sp.toNatClampNeg + z) .null = .int (f (sp.toNatClampNeg + z)) := by
            show (arrV (G.2.1 t0) n0 (fun j => .int (f j))).slots.getD _ _ = _
            rw [Array.getD_eq_getD_getElem?, arrV_read _ _ (by omega)]
            rfl
          rw [ev]
          refine ⟨?_, trivial⟩
          have := List.all_eq_true.mp h6 z (List.mem_range.mpr hz)
          rw [hty2] at this
          exact this
        · intro H1 L y1 z oq hL
          refine kk H1 _ (hback _ _ H1 rfl z (hP.set hD hi ?_ oq) (hD.set hi) rfl) (hS_put hS hD hi z oq hL)
          show H1[a]? = some (vp_cell _ _)
          rw [y1]
          exact congrArg some (va_copied (fun z => .int z) (G.2.1 t0) (G.2.1 t0) f g h4)
      rcases (show t0 = 0 ∨ t0 = 1 ∨ t0 = 2 ∨ t0 = 3 ∨ t0 = 4 by omega) with rfl | rfl | rfl | rfl | rfl
      · exact key .int rfl rfl rfl
      · exact key .long rfl rfl rfl
      · exact key .byte rfl rfl rfl
      · exact key .short rfl rfl rfl
      · exact key .boolean rfl rfl rfl
    next => cases e1
  next => cases e1
theorem g_cpyK {own : String} {index a0 a : Nat} {o0 o : Option Nat} {sp dp n : Int32} {S S' : gS} (hx : p.tables.exec = Jvm.exec) (hb : c.code = cc) (hml : c.maxLocals = ls.size) (hts : ∀ w ∈ lw_all, w.before args s = true) (hown : s.vm.findClass own = some m.cls) (hE : gE G s s.heap) (hk : rOK Rp) (hH : hp G Rp S H) (hS : va_S G.2.2.2 s.heap H locs) (hlink : Cond.methodLink own index acN ∈ lw_all) (hnat : Cond.native acN ∈ lw_all) (hstat : Cond.static acN ∈ lw_all) (hini : Cond.initialized "java/lang/System" ∈ lw_all) (eo0 : o0 = some a0) (eo : o = some a) (e1 : cpyK G S a0 sp a dp n = some S') (hfr : 1 ≤ R.frames) (hlo : (rest.map fun v => v.category).sum + 40 ≤ R.locals) (hdg : decode cc pc = .ok (.invokestatic index, 3))
    (kk : ∀ (H1 : Heap) (locs1 : List Loc), hp G Rp S' H1 → va_S G.2.2.2 s.heap H1 locs1 → W p l e R s m args below meth c H1 locs1 kc ks Q (F0 m (pc + 3) ls rest)) : W p l e R s m args below meth c H locs kc ks Q (F0 m pc ls (.int n :: .int dp :: va_rf o :: .int sp :: va_rf o0 :: rest)) := by
  unfold cpyK at e1
  split at e1
  next k t1 n1 g hq0 q1 =>
    obtain ⟨hk3, ha0⟩ := bK_o hq0
    subst ha0
    subst eo
    subst eo0
    split at e1
    next hq =>
      obtain ⟨rfl, h1, h2, h3, h4, h5, h6⟩ := hq
      cases e1
      obtain ⟨ws, i, hP, hD, hi, hback⟩ := hp_ws hk hH q1 rfl
      obtain ⟨cell, c1, c2, c3, c4, c5, c6, c7⟩ := (hE.2.2.2.1.2.2.2.2.1 k hk3).2.2.2
      have c1' : H[G.2.2.1 (10 + k)]? = some cell := by rw [hS.2.1 _ (Array.getElem?_eq_some_iff.mp c1).1 c7]; exact c1
      obtain ⟨c8, k0, hk0, cm0, hkk0⟩ := c2
      obtain ⟨-, k1, hk1, cm1, hkk1⟩ := (hE.1.2 2 _ rfl).1 n1 (fun j => .int (g j))
      refine g_acpy hx hb hml hown hts hlink hnat hstat hini c1' (hP i _ hi) ⟨fun q h => by rw [h] at c8; exact absurd c8 (by simp), c3⟩ (vpc_vm _ _) hk0 hk1 hkk0 hkk1 (by rfl) h1 h2 h3 (Nat.le_trans h4 c4) (by show _ ≤ (arrV _ _ _).slots.size; rw [arrV_size]; exact h5) ?_ hfr hlo hdg ?_
      · intro T vm' hT hal z hz
        have ev : cell.slots.getD (sp.toNatClampNeg + z) .null = .int ((gStrByt.getD k []).getD (sp.toNatClampNeg + z) 0) := by
          rw [Array.getD_eq_getD_getElem?, c6 _ (by omega)]
          rfl
        rw [ev]
        exact ⟨List.all_eq_true.mp h6 z (List.mem_range.mpr hz), trivial⟩
      · intro H1 L y1 z oq hL
        refine kk H1 _ (hback _ _ H1 rfl z (hP.set hD hi ?_ oq) (hD.set hi) rfl) (hS_put hS hD hi z oq hL)
        show H1[a]? = some (vp_cell _ _)
        rw [y1]
        exact congrArg some (va_copiedX (fun z => .int z) cell (G.2.1 2) (fun j => (gStrByt.getD k []).getD j 0) g c6 h4)
    next => cases e1
  next => exact g_cpyB hx hb hml hts hown hE hk hH hS hlink hnat hstat hini eo0 eo e1 hfr hlo hdg kk
  next => cases e1
theorem g_cpyQ {own : String} {index a0 a : Nat} {o0 o : Option Nat} {sp dp n : Int32} {S S' : gS} (hx : p.tables.exec = Jvm.exec) (hb : c.code = cc) (hml : c.maxLocals = ls.size) (hts : ∀ w ∈ lw_all, w.before args s = true) (hown : s.vm.findClass own = some m.cls) (hE : gE G s s.heap) (hk : rOK Rp) (hH : hp G Rp S H) (hS : va_S G.2.2.2 s.heap H locs) (hlink : Cond.methodLink own index acN ∈ lw_all) (hnat : Cond.native acN ∈ lw_all) (hstat : Cond.static acN ∈ lw_all) (hini : Cond.initialized "java/lang/System" ∈ lw_all) (eo0 : o0 = some a0) (eo : o = some a) (e1 : cpyQ G S a0 sp a dp n = some S') (hfr : 1 ≤ R.frames) (hlo : (rest.map fun v => v.category).sum + 40 ≤ R.locals) (hdg : decode cc pc = .ok (.invokestatic index, 3))
    (kk : ∀ (H1 : Heap) (locs1 : List Loc), hp G Rp S' H1 → va_S G.2.2.2 s.heap H1 locs1 → W p l e R s m args below meth c H1 locs1 kc ks Q (F0 m (pc + 3) ls rest)) : W p l e R s m args below meth c H locs kc ks Q (F0 m pc ls (.int n :: .int dp :: va_rf o :: .int sp :: va_rf o0 :: rest)) := by
  subst eo
  subst eo0
  obtain ⟨hraA, hraB⟩ := hE.1.2 5 _ rfl
  unfold cpyQ at e1
  split at e1
  next ha0 =>
    subst ha0
    split at e1
    next t1 n1 g q1 =>
      split at e1
      next hq =>
        obtain ⟨rfl, h1, h2, h3, h4, h5⟩ := hq
        cases e1
        obtain ⟨ws, i, hP, hD, hi, hback⟩ := hp_ws hk hH q1 rfl
        obtain ⟨cell, c1, c2, c3, c4, c5, c6, c7⟩ := hE.2.2.2.2.2.1.2
        have c1' : H[G.2.2.1 1]? = some cell := by rw [hS.2.1 _ (Array.getElem?_eq_some_iff.mp c1).1 c7]; exact c1
        obtain ⟨c8, k0, hk0, cm0, hkk0⟩ := c2
        obtain ⟨-, k1, hk1, cm1, hkk1⟩ := hraA n1 (fun j => va_rf (g j))
        refine g_acpy hx hb hml hown hts hlink hnat hstat hini c1' (hP i _ hi) ⟨fun q h => by rw [h] at c8; exact absurd c8 (by simp), c3⟩ (vpc_vm _ _) hk0 hk1 hkk0 hkk1 (by rfl) h1 h2 h3 (Nat.le_trans h4 c4) (by show _ ≤ (arrV _ _ _).slots.size; rw [arrV_size]; exact h5) (fun T vm' hT hal z hz => by omega) hfr hlo hdg ?_
        intro H1 L y1 z oq hL
        have h00 : n.toNatClampNeg = 0 := by omega
        have hg : gup S.1 a (cAq 5 n1 g) = S.1 := by
          funext b
          by_cases hb2 : b = a
          · subst hb2
            rw [gup_s, q1]
          · rw [gup_n _ _ hb2]
        have hb3 := hback (cAq 5 n1 g) _ H1 rfl z (hP.set hD hi (e := .inl (G.2.1 5, n1, .inr (.inr (.inr (.inr g))))) (by
          show H1[a]? = some (vp_cell _ _)
          rw [y1]
          refine congrArg some ((va_copiedX (fun z => va_rf z) cell (G.2.1 5) (fun _ => none) g (fun j hj => absurd hj (Nat.not_lt_zero j)) h4).trans ?_)
          rw [vp_cell_q]
          congr 2
          funext w
          rw [pk_cpy_out (by omega)]) oq) (hD.set hi) rfl
        rw [hg] at hb3
        exact kk H1 _ hb3 (hS_put hS hD hi z oq hL)
      next => cases e1
    next => cases e1
  next =>
    split at e1
    next t0 n0 f t1 n1 g q0 q1 =>
      split at e1
      next hq =>
        obtain ⟨rfl, rfl, h1, h2, h3, h4, h5, h6⟩ := hq
        cases e1
        obtain ⟨ws, i, hP, hD, hi, hoth, hback⟩ := hp_ws2 hk hH q1 rfl
        obtain ⟨j, hj⟩ := hoth a0 _ _ q0 rfl
        obtain ⟨-, k0, hk0, cm0, hkk0⟩ := hraA n0 (fun j => va_rf (f j))
        refine g_acpy hx hb hml hown hts hlink hnat hstat hini (hP j _ hj) (hP i _ hi) (vpc_vm _ _) (vpc_vm _ _) hk0 hk0 hkk0 hkk0 (by rfl) h1 h2 h3 (by show _ ≤ (arrV _ _ _).slots.size; rw [arrV_size]; exact h4) (by show _ ≤ (arrV _ _ _).slots.size; rw [arrV_size]; exact h5) ?_ hfr hlo hdg ?_
        · intro T vm' hT hal z hz
          have ev : (vp_cell (G.2.1 5) (n0, .inr (.inr (.inr (.inr f))))).slots.getD (sp.toNatClampNeg + z) .null = va_rf (f (sp.toNatClampNeg + z)) := by
            show (arrV (G.2.1 5) n0 (fun j => va_rf (f j))).slots.getD _ _ = _
            rw [Array.getD_eq_getD_getElem?, arrV_read _ _ (by omega)]
            rfl
          rw [ev]
          have h7 := List.all_eq_true.mp h6 z (List.mem_range.mpr hz)
          cases hy : f (sp.toNatClampNeg + z) with
          | none => exact ⟨rfl, trivial⟩
          | some y =>
            rw [hy] at h7
            obtain ⟨cellV, g1, g2, ⟨kC, hkC⟩, hasg⟩ := g_any hE hk hH hS h7
            obtain ⟨kA, comp, r1, r2, r3, -⟩ := hraB
            cases hk0.symm.trans r1
            cases hkk0.symm.trans r2
            obtain ⟨kE, hkE, -⟩ := Vm.findClass_spec r3
            obtain ⟨kC', hkC', -⟩ := hal.2.2 _ _ hkC
            obtain ⟨kE', hkE', -⟩ := hal.2.2 _ _ hkE
            refine ⟨rfl, cellV, (show T.heap[y]? = some cellV by rw [hT]; exact g1), (fun q h => by rw [h] at g2; cases g2), ⟨kC', hkC'⟩, ⟨kE', hkE'⟩, ?_⟩
            show vm'.assignable _ _ = true
            rw [hal.assignable]
            exact hasg _ r3
        · intro H1 L y1 z oq hL
          refine kk H1 _ (hback _ _ H1 rfl z (hP.set hD hi ?_ oq) (hD.set hi) rfl) (hS_put hS hD hi z oq hL)
          show H1[a]? = some (vp_cell _ _)
          rw [y1, vp_cell_q, vp_cell_q, vp_cell_q]
          exact congrArg some (va_copied (fun z => va_rf z) (G.2.1 5) (G.2.1 5) f g h4)
      next => cases e1
    next => cases e1
/-- getClass of a row of objects, a class constant -/
theorem g_getC {own : String} {index a : Nat} {o : Option Nat} {v : Int32} {S : gS} (hx : p.tables.exec = Jvm.exec) (hb : c.code = cc) (hml : c.maxLocals = ls.size) (hts : ∀ w ∈ lw_all, w.before args s = true) (hown : s.vm.findClass own = some m.cls) (hE : gE G s s.heap) (hk : rOK Rp) (hH : hp G Rp S H) (hS : va_S G.2.2.2 s.heap H locs) (hlink : Cond.methodLink own index ⟨"java/lang/Object", "getClass", "()Ljava/lang/Class;"⟩ ∈ lw_all) (eo : o = some a) (e1 : lenQ G S a = some v) (hfr : 1 ≤ R.frames) (hlo : (rest.map fun v => v.category).sum + 14 ≤ R.locals) (hdg : decode cc pc = .ok (.invokevirtual index, 3))
    (kk : W p l e R s m args below meth c H locs kc ks Q (F0 m (pc + 3) ls (.ref (G.2.2.1 14) :: rest))) : W p l e R s m args below meth c H locs kc ks Q (F0 m pc ls (va_rf o :: rest)) := by
  subst eo
  have hM := hE.2.2.2.2.2.2.2.2.2.2.2.1
  refine va_getC (C := "[Ljava/lang/Object;") hx hb hml hown (hts _ hlink) (va_Nw.use rfl (hE.2.1.2.2.2.2.1 _ q3356)) (hts _ q3355) (hts _ q1060) (hts _ q1104) hM ?_ hfr hlo hdg kk
  unfold lenQ at e1
  split at e1
  next h2 =>
    subst h2
    obtain ⟨cell, h1, h2, h3, -⟩ := (hE.2.2.2.2.2.2.2.2.2.2.2.2.2.1).kept hS.2.1
    exact ⟨cell, h1, h2, h3⟩
  next =>
    obtain ⟨h3, h4⟩ := lenT_o e1
    obtain ⟨⟨t', n', f⟩, h5, -⟩ := lenA_o h3
    have h6 := h4 t' (n', f) h5
    subst h6
    obtain ⟨x, hx1, hP⟩ := hp_arr hk hH h5
    have hcls : s.vm.findClass "[Ljava/lang/Object;" = some (G.2.1 5) := va_nmO (hE.1.2 5 _ rfl).2 (by decide +kernel)
    rcases f with f | f | f <;> (cases hx1; exact ⟨_, hP 0 _ rfl, rfl, hcls⟩)
theorem g_ldcM {own : String} {index : Nat} (hx : p.tables.exec = Jvm.exec) (hb : c.code = cc) (hts : ∀ w ∈ lw_all, w.before args s = true) (hown : s.vm.findClass own = some m.cls) (hE : gE G s s.heap) (hlink : Cond.classLink own index "[Ljava/lang/Object;" ∈ lw_all) (hdg : decode cc pc = .ok (.ldc index, 2))
    (kk : W p l e R s m args below meth c H locs kc ks Q (F0 m (pc + 2) ls (.ref (G.2.2.1 14) :: rest))) : W p l e R s m args below meth c H locs kc ks Q (F0 m pc ls rest) := va_ldcM hx hb hown (hts _ hlink) hE.2.2.2.2.2.2.2.2.2.2.2.1 hdg kk
end
