/-! FURTHER ROWS of the heap walks: making objects, calls of all kinds, casts, the constant array WAITS -/
set_option maxRecDepth 100000
set_option maxHeartbeats 4000000
def noRes : Unit := ()
/-- a new object -/
def nw {β : Type} (S : gS) (c : Cel) (n : Nat) (k : gS → gO β) : gO β := ad 1 n (k (mk S c))
theorem nwo {β : Type} {S : gS} {c : Cel} {n : Nat} {k : gS → gO β} {r : β} {Sf : gS} {C N : Nat} (h : nw S c n k = some (r, Sf, C, N)) : ∃ S1 c2 n2, S1 = mk S c ∧ k S1 = some (r, Sf, c2, n2) ∧ C = 1 + c2 ∧ N = n + n2 := by
  obtain ⟨c2, n2, h1, h2, h3⟩ := ado h
  exact ⟨_, c2, n2, rfl, h1, h2, h3⟩
/-- a new array of ints, longs, bytes .. (kinds 0 .. 4), of references -/
def nwa {β : Type} (S : gS) (t : Nat) (i : Int32) (k : gS → gO β) : gO β := if i < 0 ∨ 100000 < i.toNatClampNeg then none else nw S (if t = 1 then cAl 1 i.toNatClampNeg (fun _ => 0) else cAi t i.toNatClampNeg (fun _ => 0)) i.toNatClampNeg k
theorem nwao {β : Type} {S : gS} {t : Nat} {i : Int32} {k : gS → gO β} {r : β} {Sf : gS} {C N : Nat} (h : nwa S t i k = some (r, Sf, C, N)) : ¬ i < 0 ∧ i.toNatClampNeg ≤ 100000 ∧ ∃ S1 c2 n2, S1 = mk S (if t = 1 then cAl 1 i.toNatClampNeg (fun _ => 0) else cAi t i.toNatClampNeg (fun _ => 0)) ∧ k S1 = some (r, Sf, c2, n2) ∧ C = 1 + c2 ∧ N = i.toNatClampNeg + n2 := by
  unfold nwa at h
  split at h
  next => cases h
  next q => exact ⟨fun z => q (Or.inl z), Nat.not_lt.mp fun z => q (Or.inr z), nwo h⟩
def kWaits (i : Int32) : Option Int32 := if i < 0 ∨ 5 ≤ i.toNatClampNeg then none else some (gWaits i.toNatClampNeg)
theorem kWaits_o {i v : Int32} (h : kWaits i = some v) : vp_in i 5 ∧ v = gWaits i.toNatClampNeg := by
  unfold kWaits at h
  split at h
  next => cases h
  next q => cases h; exact ⟨q, rfl⟩
theorem nar_rf (C : String) (o : Option Nat) : narrow (.object C) (va_rf o) = va_rf o := by cases o <;> rfl
theorem fit_rf (C : String) (o : Option Nat) : fits (.object C) (va_rf o) = true := by cases o <;> rfl
theorem nar_ra (t : FieldType) (o : Option Nat) : narrow (.array t) (va_rf o) = va_rf o := by cases o <;> rfl
theorem fit_ra (t : FieldType) (o : Option Nat) : fits (.array t) (va_rf o) = true := by cases o <;> rfl
theorem nar_z {v : Int32} (h : v = nI 0 ∨ v = nI 1) : narrow .boolean (.int v) = .int v := by rcases h with rfl | rfl <;> rfl
theorem fit_z {v : Int32} (h : v = nI 0 ∨ v = nI 1) : fits .boolean (.int v) = true := by rcases h with rfl | rfl <;> rfl
theorem in_noT (C : String) : ∀ w ∈ u_ws C noT 0, w ∈ lw_all := fun w h => by simp [u_ws] at h
def adtName : Nat → String := fun t => match t with
  | 0 => "java/util/ArrayList"
  | 1 => "java/util/LinkedList"
  | 2 => "java/util/PriorityQueue"
  | 3 => "java/util/ArrayDeque"
  | 4 => "java/lang/StringBuilder"
  | 5 => "java/lang/String"
  | 6 => "java/util/ArrayList$Itr"
  | 7 => "java/util/LinkedList$ListItr"
  | 8 => "java/util/PriorityQueue$Itr"
  | 9 => "java/util/ArrayDeque$DeqIterator"
  | 10 => "java/lang/Integer"
  | _ => ""
theorem adtR {β : Type} {S : gS} {a t : Nat} {k : Int32 × Nat × List Nat → Option β} {x : β} (h : bd (adt S a t) k = some x) : ∃ q, S.1 a = some (.inr (.inr (t, q))) := by
  obtain ⟨q, hq, -⟩ := bdo h
  exact ⟨q, adt_o hq⟩
section
variable {p : Program} {l : Launch} {e : Env} {s : State} {m : MethodId} {args : Array Value} {below : List Frame} {meth : Method} {c : Code} {G : gG} {Rp : gM → gM → Nat → Prop} {R : Room} {H : Heap} {locs : List Loc} {Q : State → Prop} {cc : ByteArray} {ls : Array Slot} {rest : List Value} {pc : Nat} {kc ks : Nat}
theorem g_newo {own C : String} {T : u_T} {N ci index : Nat} {ty : Nat → FieldType} {fs : List Value} {S S1 : gS} (hx : p.tables.exec = Jvm.exec) (hb : c.code = cc) (hts : ∀ w ∈ lw_all, w.before args s = true) (hown : s.vm.findClass own = some m.cls) (hE : gE G s s.heap) (hA : ∀ q : Nat, s.heap.size ≤ q → G.2.2.2 q) (hk : rOK Rp) (hH : hp G Rp S H) (hS : va_S G.2.2.2 s.heap H locs) (hin : ∀ w ∈ u_ws C T N, w ∈ lw_all) (hty : ∀ k, k < N → parseFieldDescriptor (T k).2.2.1 = some (ty k)) (hcl : Cond.classLink own index C ∈ lw_all) (hinst : Cond.instantiable C N ∈ lw_all) (hini : Cond.initialized C ∈ lw_all) (hc : gCl[ci]? = some (C, T, N)) (hfs : ∀ j, j < N → defaultValue (ty j) = vp_V fs j) (e1 : S1 = mk S (cO ci fs)) (hcells : kc + 1 ≤ R.cells) (hslots : ks + N ≤ R.slots) (hdg : decode cc pc = .ok (.new index, 3))
    (kk : ∀ (H1 : Heap), hp G Rp S1 H1 → va_S G.2.2.2 s.heap H1 locs → W p l e R s m args below meth c H1 locs (kc + 1) (ks + N) Q (F0 m (pc + 3) ls (.ref S.2 :: rest))) : W p l e R s m args below meth c H locs kc ks Q (F0 m pc ls rest) := by
  subst e1
  exact g_new hx hb hts hown hE hA hk hH hS hin hty (hts _ hcl) (hts _ hinst) (hts _ hini) hc hfs hcells hslots hdg kk
theorem g_newa {atype : ArrayType} {ty : FieldType} {t : Nat} {i : Int32} {S S1 : gS} (hx : p.tables.exec = Jvm.exec) (hb : c.code = cc) (hts : ∀ w ∈ lw_all, w.before args s = true) (hE : gE G s s.heap) (hA : ∀ q : Nat, s.heap.size ≤ q → G.2.2.2 q) (hk : rOK Rp) (hH : hp G Rp S H) (hS : va_S G.2.2.2 s.heap H locs) (harr : Cond.arrayClass (newarray.typeOf atype) ∈ lw_all) (hty : newarray.typeOf atype = ty) (ht : (gTy G.2.1)[t]? = some (G.2.1 t, ty)) (hd : defaultValue ty = if t = 1 then .long 0 else .int 0) (hnr : ∀ C, ty ≠ .object C) (hn : ¬ i < 0) (hi : i.toNatClampNeg ≤ 100000) (e1 : S1 = mk S (if t = 1 then cAl 1 i.toNatClampNeg (fun _ => 0) else cAi t i.toNatClampNeg (fun _ => 0))) (hbt : componentBytes ty ≤ 8) (hcells : kc + 1 ≤ R.cells) (hslots : ks + i.toNatClampNeg ≤ R.slots) (hdg : decode cc pc = .ok (.newarray atype, 2))
    (kk : ∀ (H1 : Heap), hp G Rp S1 H1 → va_S G.2.2.2 s.heap H1 locs → W p l e R s m args below meth c H1 locs (kc + 1) (ks + i.toNatClampNeg) Q (F0 m (pc + 2) ls (.ref S.2 :: rest))) : W p l e R s m args below meth c H locs kc ks Q (F0 m pc ls (.int i :: rest)) := by
  subst e1
  obtain ⟨ws, hP, hD, hz, hback⟩ := hp_new hk hH
  have hK0 : va_K G.1 gCl [] s := hE.1.sub [] rfl
  have hRA := (hE.1.2 t _ ht).2
  have hb1 : i.toNatClampNeg * componentBytes ty ≤ 536870912 := Nat.le_trans (Nat.mul_le_mul hi hbt) (Nat.le_of_ble_eq_true rfl)
  have key : ∀ (a0 : vp_A) (c0 : Cel), (∀ cA : ClassId, vp_cell cA a0 = arrV cA i.toNatClampNeg (fun _ => defaultValue ty)) → toE G.2.1 c0 = some (.inl (G.2.1 t, a0)) → (∀ (H1 : Heap), hp G Rp (mk S c0) H1 → va_S G.2.2.2 s.heap H1 locs → W p l e R s m args below meth c H1 locs (kc + 1) (ks + i.toNatClampNeg) Q (F0 m (pc + 2) ls (.ref S.2 :: rest))) → W p l e R s m args below meth c H locs kc ks Q (F0 m pc ls (.int i :: rest)) := by
    intro a0 c0 ha hc0 kk
    subst hty
    refine va_newaK hx hb (hts _ harr) rfl hdg rfl hn rfl hb1 hcells hslots rfl fun H1 cA e1 z1 o1 hAr hNm => ?_
    have hcA : cA = G.2.1 t := by
      cases atype <;> exact Option.some.inj (hNm.symm.trans hRA)
    subst hcA
    have hk1 : ∀ (k : Nat) (x : Nat × va_E), ws[k]? = some x → H1[x.1]? = H[x.1]? := fun k x hx => o1 x.1 ((hP k x hx).lt)
    have hkk := kk H1 (hback _ _ H1 hc0 z1 ((hP.kept hk1).app (fun k x hx => ?_)) (hD.push hP hz.symm (hA _ (by rw [← hz]; exact hS.1)))) ⟨Nat.le_trans hS.1 (by omega), fun x h1 h2 => (o1 x (Nat.lt_of_lt_of_le h1 hS.1)).trans (hS.2.1 x h1 h2), hS.2.2⟩
    · rw [← hz] at hkk
      exact hkk
    · have hz1 : k < 1 := (List.getElem?_eq_some_iff.mp hx).1
      rw [show k = 0 by omega] at hx
      cases hx
      show H1[S.2]? = some (vp_cell _ _)
      rw [ha, ← hz]
      exact e1
  by_cases h1 : t = 1
  · rw [if_pos h1] at kk hd
    refine key (i.toNatClampNeg, .inr (.inl (fun _ => 0))) _ (fun cA => by rw [vp_cell_l, hd]) (by rw [h1]; rfl) kk
  · rw [if_neg h1] at kk hd
    refine key (i.toNatClampNeg, .inl (fun _ => 0)) _ (fun cA => by rw [vp_cell_i, hd]) rfl kk
theorem g_newq {own C : String} {t t0 index : Nat} {i : Int32} {S S1 : gS} (hx : p.tables.exec = Jvm.exec) (hb : c.code = cc) (hts : ∀ w ∈ lw_all, w.before args s = true) (hown : s.vm.findClass own = some m.cls) (hE : gE G s s.heap) (hA : ∀ q : Nat, s.heap.size ≤ q → G.2.2.2 q) (hk : rOK Rp) (hH : hp G Rp S H) (hS : va_S G.2.2.2 s.heap H locs) (hcl : Cond.classLink own index C ∈ lw_all) (hover : Cond.arrayOver (.object C) ∈ lw_tbl) (ht : (gTy G.2.1)[t0]? = some (G.2.1 t, .object C)) (hn : ¬ i < 0) (hi : i.toNatClampNeg ≤ 100000) (e1 : S1 = mk S (cAq t i.toNatClampNeg (fun _ => none))) (hcells : kc + 1 ≤ R.cells) (hslots : ks + i.toNatClampNeg ≤ R.slots) (hdg : decode cc pc = .ok (.anewarray index, 3))
    (kk : ∀ (H1 : Heap), hp G Rp S1 H1 → va_S G.2.2.2 s.heap H1 locs → W p l e R s m args below meth c H1 locs (kc + 1) (ks + i.toNatClampNeg) Q (F0 m (pc + 3) ls (.ref S.2 :: rest))) : W p l e R s m args below meth c H locs kc ks Q (F0 m pc ls (.int i :: rest)) := by
  subst e1
  obtain ⟨ws, hP, hD, hz, hback⟩ := hp_new hk hH
  obtain ⟨kA, comp, k1, k2, k3, k4⟩ := (hE.1.2 t0 _ ht).2
  refine W.anew hx hb hown (hts _ hcl) (va_AO.use (hE.2.1.2.2.2.1 C hover)) rfl hdg rfl hn (by omega) hcells hslots fun cA kA' comp' f1 f2 f3 f4 => ?_
  have hcA : cA = G.2.1 t := Option.some.inj (f1.symm.trans k4)
  subst hcA
  generalize hH1 : H.push ({ cls := G.2.1 t, slots := Array.replicate i.toNatClampNeg .null, vm := .none } : Cell) = H1
  have z1 : H1.size = H.size + 1 := by rw [← hH1, Array.size_push]
  have e1 : H1[H.size]? = some (arrV (G.2.1 t) i.toNatClampNeg (fun _ => .null)) := by rw [← hH1, Array.getElem?_push_size, ← arrV_new]
  have o1 : ∀ q : Nat, q < H.size → H1[q]? = H[q]? := fun q hq => by rw [← hH1, Array.getElem?_push, if_neg (Nat.ne_of_lt hq)]
  have hk1 : ∀ (k : Nat) (x : Nat × va_E), ws[k]? = some x → H1[x.1]? = H[x.1]? := fun k x hx => o1 x.1 ((hP k x hx).lt)
  have hkk := kk H1 (hback (cAq t i.toNatClampNeg (fun _ => none)) (.inl (G.2.1 t, i.toNatClampNeg, .inr (.inr (.inr (.inr (fun _ => none)))))) H1 rfl z1 ((hP.kept hk1).app (fun k x hx => ?_)) (hD.push hP hz.symm (hA _ (by rw [← hz]; exact hS.1)))) ⟨Nat.le_trans hS.1 (by omega), fun x h1 h2 => (o1 x (Nat.lt_of_lt_of_le h1 hS.1)).trans (hS.2.1 x h1 h2), hS.2.2⟩
  · rw [← hz] at hkk
    exact hkk
  · have hz1 : k < 1 := (List.getElem?_eq_some_iff.mp hx).1
    rw [show k = 0 by omega] at hx
    cases hx
    show H1[S.2]? = some (vp_cell _ _)
    rw [vp_cell_q, ← hz]
    exact e1
theorem g_waits {own : String} {index : Nat} (hx : p.tables.exec = Jvm.exec) (hb : c.code = cc) (hE : gE G s s.heap) (hS : va_S G.2.2.2 s.heap H locs) (hown : s.vm.findClass own = some m.cls) (hlink : Cond.fieldLinkNest own index "CreditBroker" "WAITS" "[I" "CreditBroker" ∈ lw_tbl) (hdg : decode cc pc = .ok (.getstatic index, 3))
    (kk : W p l e R s m args below meth c H locs kc ks Q (F0 m (pc + 3) ls (.ref (G.2.2.1 0) :: rest))) : W p l e R s m args below meth c H locs kc ks Q (F0 m pc ls rest) :=
  va_getsN hx hb hE.2.2.1.1 hS hown (va_Nw.use rfl (hE.2.1.2.2.1 _ _ _ _ _ _ hlink)) (fun _ h => h) hdg kk
theorem g_wald {i v : Int32} (hx : p.tables.exec = Jvm.exec) (hb : c.code = cc) (hE : gE G s s.heap) (hS : va_S G.2.2.2 s.heap H locs) (e1 : kWaits i = some v) (hdg : decode cc pc = .ok (.iaload, 1))
    (kk : W p l e R s m args below meth c H locs kc ks Q (F0 m (pc + 1) ls (.int v :: rest))) : W p l e R s m args below meth c H locs kc ks Q (F0 m pc ls (.int i :: .ref (G.2.2.1 0) :: rest)) := by
  obtain ⟨h1, rfl⟩ := kWaits_o e1
  exact va_ti hx hb hE.2.2.1.2 hS h1 rfl hdg kk
/-- a cast to the class that the object has -/
theorem g_cast {own C : String} {T : u_T} {N index ci : Nat} {o : Option Nat} {u : Unit} {S : gS} (hx : p.tables.exec = Jvm.exec) (hb : c.code = cc) (hts : ∀ w ∈ lw_all, w.before args s = true) (hown : s.vm.findClass own = some m.cls) (hE : gE G s s.heap) (hk : rOK Rp) (hH : hp G Rp S H) (hc : gCl[ci]? = some (C, T, N)) (hlink : Cond.classLink own index C ∈ lw_all) (e1 : ckc S o ci = some u) (hdg : decode cc pc = .ok (.checkcast index, 3))
    (kk : W p l e R s m args below meth c H locs kc ks Q (F0 m (pc + 3) ls (va_rf o :: rest))) : W p l e R s m args below meth c H locs kc ks Q (F0 m pc ls (va_rf o :: rest)) := by
  cases o with
  | none => exact lv_castN hx hb hdg kk
  | some a =>
    obtain ⟨fs, h⟩ := chk_o e1
    exact va_castS hx hb hown (hts _ hlink) (hE.1.1 ci _ hc).2 (g_recv hE hk hH hc h) hdg kk
theorem g_callU {x y : MethodName} {own nm owner C : String} {bytes : ByteArray} {maxL nL fr lo fr' lo' n index C9 N mc ms b : Nat} {o : Option Nat} {ret ret' : Option FieldType} {As st0 st1 : List Value} {v : Option Value} {S S2 : gS} (hc : gC p s m args meth c G own nm cc nL ret') (hM : gMet l y bytes maxL ret fr' lo' G Rp (.ref b :: As) S v S2 C9 N) (cw : va_CU (gR fr lo mc ms) s args own C owner index x y bytes maxL ret (ws_ y bytes maxL ret) (gR fr' lo' C9 N) C9 N n) (hrc : ∃ cell : Cell, H[b]? = some cell ∧ cell.vm.isStatics = false ∧ s.vm.findClass C = some cell.cls) (eo : o = some b) (hn : As.length = n) (hsize : ls.size = nL) (hst0 : st0 = As.reverse ++ va_rf o :: rest) (hst : v.toList ++ rest = st1) (hW : 2 * (F0 m pc ls st0).monitorRoom + (rest.map fun v => v.category).sum ≤ 8) (hdg : decode cc pc = .ok (.invokevirtual index, 3)) (hH : hp G Rp S H) (hS : va_S G.2.2.2 s.heap H locs) (hkc : kc + C9 ≤ mc) (hks : ks + N ≤ ms)
    (kk : ∀ (H1 : Heap) (locs1 : List Loc), hp G Rp S2 H1 → va_S G.2.2.2 s.heap H1 locs1 → W p l e (gR fr lo mc ms) s m args below meth c H1 locs1 (kc + C9) (ks + N) Q (F0 m (pc + 3) ls st1)) : W p l e (gR fr lo mc ms) s m args below meth c H locs kc ks Q (F0 m pc ls st0) := by
  subst eo
  obtain ⟨hx, hb, hr, hlk, hml, hown, hts, hE, hA, hnm⟩ := hc
  exact g_call (va_runU (As := As) (rest := rest) ⟨hx, hb, hml, hown, hts⟩ hM cw ⟨g_blind, hrc, g_pre hE hA hH hS⟩ rfl hn hsize hst0 hW hdg ⟨hkc, hks⟩) hS hst kk
theorem g_callF {x y : MethodName} {own nm C : String} {q : vw_C} {bytes : ByteArray} {maxL nL fr lo fr' lo' n index count C9 N mc ms b ci : Nat} {o : Option Nat} {ret ret' : Option FieldType} {As st0 st1 : List Value} {v : Option Value} {S S2 : gS} (hc : gC p s m args meth c G own nm cc nL ret') (hM : gMet l y bytes maxL ret fr' lo' G Rp (.ref b :: As) S v S2 C9 N) (cw : va_CI (gR fr lo mc ms) s args own C index x y bytes maxL ret (ws_ y bytes maxL ret) (gR fr' lo' C9 N) C9 N n) (hq : gCl[ci]? = some q) (hqC : q.1 = C) (hrc : ∃ cell : Cell, H[b]? = some cell ∧ cell.vm.isStatics = false ∧ s.vm.findClass C = some cell.cls) (eo : o = some b) (hn : As.length = n) (hsize : ls.size = nL) (hst0 : st0 = As.reverse ++ va_rf o :: rest) (hst : v.toList ++ rest = st1) (hW : 2 * (F0 m pc ls st0).monitorRoom + (rest.map fun v => v.category).sum ≤ 8) (hdg : decode cc pc = .ok (.invokeinterface index count, 5)) (hH : hp G Rp S H) (hS : va_S G.2.2.2 s.heap H locs) (hkc : kc + C9 ≤ mc) (hks : ks + N ≤ ms)
    (kk : ∀ (H1 : Heap) (locs1 : List Loc), hp G Rp S2 H1 → va_S G.2.2.2 s.heap H1 locs1 → W p l e (gR fr lo mc ms) s m args below meth c H1 locs1 (kc + C9) (ks + N) Q (F0 m (pc + 5) ls st1)) : W p l e (gR fr lo mc ms) s m args below meth c H locs kc ks Q (F0 m pc ls st0) := by
  subst eo
  subst hqC
  obtain ⟨hx, hb, hr, hlk, hml, hown, hts, hE, hA, hnm⟩ := hc
  exact g_call5 (va_runF (As := As) (rest := rest) (hE.1.1 ci q hq).2 ⟨hx, hb, hml, hown, hts⟩ hM cw ⟨g_blind, hrc, g_pre hE hA hH hS⟩ rfl hn hsize hst0 hW hdg ⟨hkc, hks⟩) hS hst kk
theorem g_callIN {y : MethodName} {own nm host : String} {bytes : ByteArray} {maxL nL fr lo fr' lo' n index C N mc ms b : Nat} {o : Option Nat} {ret' : Option FieldType} {As st0 : List Value} {S S2 : gS} (hc : gC p s m args meth c G own nm cc nL ret') (hM : gMet l y bytes maxL none fr' lo' G Rp (.ref b :: As) S none S2 C N) (hN : Cond.methodLinkNest own index y host ∈ lw_tbl) (hcd : Cond.code y bytes maxL none ∈ lw_all) (hini : Cond.initialized y.cls ∈ lw_all) (hin : Cond.instanceMethod y ∈ lw_all) (hy1 : y.name = "<init>") (hd : y.cls ≠ "java/lang/invoke/MethodHandle" ∧ y.cls ≠ "java/lang/invoke/VarHandle" ∧ (parseMethodDescriptor y.desc).map (fun d => d.parameters.length) = some n) (hR : fr' + 1 ≤ fr ∧ 8 + (maxL + 11) + lo' ≤ lo) (eo : o = some b) (hn : As.length = n) (hsize : ls.size = nL) (hst0 : st0 = As.reverse ++ va_rf o :: rest) (hW : 2 * (F0 m pc ls st0).monitorRoom + (rest.map fun v => v.category).sum ≤ 8) (hdg : decode cc pc = .ok (.invokespecial index, 3)) (hH : hp G Rp S H) (hS : va_S G.2.2.2 s.heap H locs) (hkc : kc + C ≤ mc) (hks : ks + N ≤ ms)
    (kk : ∀ (H1 : Heap) (locs1 : List Loc), hp G Rp S2 H1 → va_S G.2.2.2 s.heap H1 locs1 → W p l e (gR fr lo mc ms) s m args below meth c H1 locs1 (kc + C) (ks + N) Q (F0 m (pc + 3) ls rest)) : W p l e (gR fr lo mc ms) s m args below meth c H locs kc ks Q (F0 m pc ls st0) := by
  subst eo
  obtain ⟨hx, hb, hr, hlk, hml, hown, hts, hE, hA, hnm⟩ := hc
  exact g_call (va_runIN (As := As) (rest := rest) ⟨hx, hb, hml, hown, hts⟩ hM ⟨va_cnB n hts (lw_meth hcd) rfl rfl rfl (hE.2.1.2.1 _ _ _ _ hN) (hts _ hini) hd hR, hy1, hts _ hin⟩ ⟨g_blind, g_pre hE hA hH hS⟩ rfl hn hsize hst0 hW hdg ⟨hkc, hks⟩) hS rfl kk
theorem g_callSN {y : MethodName} {own nm host : String} {bytes : ByteArray} {maxL nL fr lo fr' lo' n index C N mc ms : Nat} {ret ret' : Option FieldType} {As st0 st1 : List Value} {v : Option Value} {S S2 : gS} (hc : gC p s m args meth c G own nm cc nL ret') (hM : gMet l y bytes maxL ret fr' lo' G Rp As S v S2 C N) (hN : Cond.methodLinkNest own index y host ∈ lw_tbl) (hcd : Cond.code y bytes maxL ret ∈ lw_all) (hini : Cond.initialized y.cls ∈ lw_all) (hst : Cond.static y ∈ lw_all) (hd : y.cls ≠ "java/lang/invoke/MethodHandle" ∧ y.cls ≠ "java/lang/invoke/VarHandle" ∧ (parseMethodDescriptor y.desc).map (fun d => d.parameters.length) = some n) (hR : fr' + 1 ≤ fr ∧ 8 + (maxL + 11) + lo' ≤ lo) (hn : As.length = n) (hsize : ls.size = nL) (hst0 : st0 = As.reverse ++ rest) (hst1 : v.toList ++ rest = st1) (hW : 2 * (F0 m pc ls st0).monitorRoom + (rest.map fun v => v.category).sum ≤ 8) (hdg : decode cc pc = .ok (.invokestatic index, 3)) (hH : hp G Rp S H) (hS : va_S G.2.2.2 s.heap H locs) (hkc : kc + C ≤ mc) (hks : ks + N ≤ ms)
    (kk : ∀ (H1 : Heap) (locs1 : List Loc), hp G Rp S2 H1 → va_S G.2.2.2 s.heap H1 locs1 → W p l e (gR fr lo mc ms) s m args below meth c H1 locs1 (kc + C) (ks + N) Q (F0 m (pc + 3) ls st1)) : W p l e (gR fr lo mc ms) s m args below meth c H locs kc ks Q (F0 m pc ls st0) := by
  obtain ⟨hx, hb, hr, hlk, hml, hown, hts, hE, hA, hnm⟩ := hc
  exact g_call (va_runSN (As := As) (rest := rest) ⟨hx, hb, hml, hown, hts⟩ hM ⟨va_cnB n hts (lw_meth hcd) rfl rfl rfl (hE.2.1.2.1 _ _ _ _ hN) (hts _ hini) hd hR, hts _ hst, trivial⟩ ⟨g_blind, g_pre hE hA hH hS⟩ rfl hn hsize hst0 hW hdg ⟨hkc, hks⟩) hS hst1 kk
end
