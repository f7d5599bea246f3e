/-! printed by gen/cgen.py: what the component asks of the JDK: a contract for each member, and the classes of the abstract things -/
set_option maxRecDepth 100000
/-- the contract of a method with handlers -/
def gMetW (l : Launch) (y : MethodName) (cc : ByteArray) (maxL : Nat) (ret : Option FieldType) (hh : List (Nat × Nat × Nat × Nat)) (fr lo : Nat) (G : gG) (Rp : gM → gM → Nat → Prop) (av : List Value) (S : gS) (r : Option Value) (S2 : gS) (C N : Nat) : Prop :=
  Met l y (wsW_ y cc maxL ret hh) (gR fr lo C N) (gPc G Rp av S) (gQc G Rp r S2) C N G.2.2.2
theorem lw_of4 {a b c d : Cond} (h1 : a ∈ lw_all) (h2 : b ∈ lw_all) (h3 : c ∈ lw_all) (h4 : d ∈ lw_all) : ∀ w ∈ [a, b, c, d], w ∈ lw_all := by
  intro w hw
  simp only [List.mem_cons, List.not_mem_nil, or_false] at hw
  rcases hw with rfl | rfl | rfl | rfl
  · exact h1
  · exact h2
  · exact h3
  · exact h4
theorem lw_of5 {a b c d f : Cond} (h1 : a ∈ lw_all) (h2 : b ∈ lw_all) (h3 : c ∈ lw_all) (h4 : d ∈ lw_all) (h5 : f ∈ lw_all) : ∀ w ∈ [a, b, c, d, f], w ∈ lw_all := by
  intro w hw
  simp only [List.mem_cons, List.not_mem_nil, or_false] at hw
  rcases hw with rfl | rfl | rfl | rfl | rfl
  · exact h1
  · exact h2
  · exact h3
  · exact h4
  · exact h5
def lenT (S : gS) (a t : Nat) : Option Int32 := match S.1 a with
  | some (.inr (.inl q)) => if q.1 = t then some (nI q.2.1) else none
  | _ => none
theorem lenT_o {S : gS} {a t : Nat} {v : Int32} (h : lenT S a t = some v) : lenA S a = some v ∧ ∀ t' f, S.1 a = some (.inr (.inl (t', f))) → t' = t := by
  unfold lenT at h
  split at h
  next q hq =>
    split at h
    next e =>
      refine ⟨by simp only [lenA, hq]; exact h, fun t' f h2 => ?_⟩
      rw [hq] at h2
      cases h2
      exact e
    next => cases h
  next => cases h
section
variable {p : Program} {l : Launch} {e : Env} {s : State} {m : MethodId} {args : Array Value} {below : List Frame} {meth : Method} {c : Code} {G : gG} {Rp : gM → gM → Nat → Prop} {R : Room} {H : Heap} {locs : List Loc} {Q : State → Prop} {cc : ByteArray} {ls : Array Slot} {rest : List Value} {pc : Nat} {kc ks : Nat}
theorem g_alen {o : Option Nat} {a t : Nat} {ty : FieldType} {v : Int32} {S : gS} (hx : p.tables.exec = Jvm.exec) (hb : c.code = cc) (hE : gE G s s.heap) (hk : rOK Rp) (hH : hp G Rp S H) (ht : (gTy G.2.1)[t]? = some (G.2.1 t, ty)) (eo : o = some a) (e1 : lenT S a t = some v) (hdg : decode cc pc = .ok (.arraylength, 1))
    (kk : W p l e R s m args below meth c H locs kc ks Q (F0 m (pc + 1) ls (.int v :: rest))) : W p l e R s m args below meth c H locs kc ks Q (F0 m pc ls (va_rf o :: rest)) := by
  obtain ⟨h1, h2⟩ := lenT_o e1
  exact g_aalen hx hb hE hk hH (fun t' f h => ⟨t, ty, by rw [h2 t' f h]; exact ht⟩) eo h1 hdg kk
/-- a cast of an abstract thing to its class -/
theorem g_casta {own C : String} {T : u_T} {N index ci t : Nat} {o : Option Nat} {u : Unit} {S : gS} (hx : p.tables.exec = Jvm.exec) (hb : c.code = cc) (hts : ∀ w ∈ lw_all, w.before args s = true) (hown : s.vm.findClass own = some m.cls) (hE : gE G s s.heap) (hrec : ∀ (s : State) (H : Heap) (S : gS) (a t : Nat) (q : Int32 × Nat × List Nat) (locs : List Loc), gE G s s.heap → hp G Rp S H → va_S G.2.2.2 s.heap H locs → S.1 a = some (.inr (.inr (t, q))) → ∃ cell : Cell, H[a]? = some cell ∧ cell.vm.isStatics = false ∧ s.vm.findClass (adtName t) = some cell.cls) (hH : hp G Rp S H) (hS : va_S G.2.2.2 s.heap H locs) (hc : gCl[ci]? = some (C, T, N)) (hC : adtName t = C) (hlink : Cond.classLink own index C ∈ lw_all) (e1 : cka S o t = some u) (hdg : decode cc pc = .ok (.checkcast index, 3))
    (kk : W p l e R s m args below meth c H locs kc ks Q (F0 m (pc + 3) ls (va_rf o :: rest))) : W p l e R s m args below meth c H locs kc ks Q (F0 m pc ls (va_rf o :: rest)) := by
  cases o with
  | none => exact lv_castN hx hb hdg kk
  | some a =>
    obtain ⟨q, hq⟩ := adtR e1
    have hr := hrec s H S a t q locs hE hH hS hq
    rw [hC] at hr
    exact va_castS hx hb hown (hts _ hlink) (hE.1.1 ci _ hc).2 hr hdg kk
theorem g_callFW {x y : MethodName} {own nm C : String} {q : vw_C} {bytes : ByteArray} {hh : List (Nat × Nat × Nat × Nat)} {maxL nL fr lo fr' lo' n index count C9 N mc ms b ci : Nat} {o : Option Nat} {ret ret' : Option FieldType} {As st0 st1 : List Value} {v : Option Value} {S S2 : gS} (hc : gC p s m args meth c G own nm cc nL ret') (hM : gMetW l y bytes maxL ret hh fr' lo' G Rp (.ref b :: As) S v S2 C9 N) (cw : va_CIW (gR fr lo mc ms) s args own C index x y bytes maxL ret hh (wsW_ y bytes maxL ret hh) (gR fr' lo' C9 N) C9 N n) (hq : gCl[ci]? = some q) (hqC : q.1 = C) (hrc : ∃ cell : Cell, H[b]? = some cell ∧ cell.vm.isStatics = false ∧ s.vm.findClass C = some cell.cls) (eo : o = some b) (hn : As.length = n) (hsize : ls.size = nL) (hst0 : st0 = As.reverse ++ va_rf o :: rest) (hst : v.toList ++ rest = st1) (hW : 2 * (F0 m pc ls st0).monitorRoom + (rest.map fun v => v.category).sum ≤ 8) (hdg : decode cc pc = .ok (.invokeinterface index count, 5)) (hH : hp G Rp S H) (hS : va_S G.2.2.2 s.heap H locs) (hkc : kc + C9 ≤ mc) (hks : ks + N ≤ ms)
    (kk : ∀ (H1 : Heap) (locs1 : List Loc), hp G Rp S2 H1 → va_S G.2.2.2 s.heap H1 locs1 → W p l e (gR fr lo mc ms) s m args below meth c H1 locs1 (kc + C9) (ks + N) Q (F0 m (pc + 5) ls st1)) : W p l e (gR fr lo mc ms) s m args below meth c H locs kc ks Q (F0 m pc ls st0) := by
  subst eo
  subst hqC
  obtain ⟨hx, hb, hr, hlk, hml, hown, hts, hE, hA, hnm⟩ := hc
  exact g_call5 (va_runFW (As := As) (rest := rest) (hE.1.1 ci q hq).2 ⟨hx, hb, hml, hown, hts⟩ hM cw ⟨g_blind, hrc, g_pre hE hA hH hS⟩ rfl hn hsize hst0 hW hdg ⟨hkc, hks⟩) hS hst kk
end
theorem cat_i (x : Int32) : (Value.int x).category = 1 := rfl
theorem cat_j (x : Int64) : (Value.long x).category = 2 := rfl
theorem cat_r (a : Nat) : (Value.ref a).category = 1 := rfl

def J_recv (l : Launch) (G : gG) (Rp : gM → gM → Nat → Prop) : Prop := ∀ (s : State) (H : Heap) (S : gS) (a t : Nat) (q : Int32 × Nat × List Nat) (locs : List Loc), gE G s s.heap → hp G Rp S H → va_S G.2.2.2 s.heap H locs → S.1 a = some (.inr (.inr (t, q))) → ∃ cell : Cell, H[a]? = some cell ∧ cell.vm.isStatics = false ∧ s.vm.findClass (adtName t) = some cell.cls
def J_nAL_init (l : Launch) (G : gG) (Rp : gM → gM → Nat → Prop) : Prop := ∀ (a : Nat) (S : gS) (r : Unit) (S2 : gS) (C N : Nat), nAL_init a S = some (r, S2, C, N) → gMet l yJ2_init cJ2_init 1 (none) 14 500 G Rp [.ref a] S none S2 C N
def J_nAL_size (l : Launch) (G : gG) (Rp : gM → gM → Nat → Prop) : Prop := ∀ (a : Nat) (S : gS) (r : Int32) (S2 : gS) (C N : Nat), nAL_size a S = some (r, S2, C, N) → gMet l yJ2_size cJ2_size 1 (some .int) 14 500 G Rp [.ref a] S (some (.int r)) S2 C N
def J_nAL_isEmpty (l : Launch) (G : gG) (Rp : gM → gM → Nat → Prop) : Prop := ∀ (a : Nat) (S : gS) (r : Int32) (S2 : gS) (C N : Nat), nAL_isEmpty a S = some (r, S2, C, N) → gMet l yJ2_isEmpty cJ2_isEmpty 1 (some .boolean) 14 500 G Rp [.ref a] S (some (.int r)) S2 C N
def J_nAL_get (l : Launch) (G : gG) (Rp : gM → gM → Nat → Prop) : Prop := ∀ (a : Nat) (x0 : Int32) (S : gS) (r : Option Nat) (S2 : gS) (C N : Nat), nAL_get a x0 S = some (r, S2, C, N) → gMet l yJ2_get cJ2_get 2 (some (.object "java/lang/Object")) 14 500 G Rp [.ref a, .int x0] S (some (va_rf r)) S2 C N
def J_nAL_add (l : Launch) (G : gG) (Rp : gM → gM → Nat → Prop) : Prop := ∀ (a : Nat) (x0 : Option Nat) (S : gS) (r : Int32) (S2 : gS) (C N : Nat), nAL_add a x0 S = some (r, S2, C, N) → gMet l yJ2_add cJ2_add 2 (some .boolean) 14 500 G Rp [.ref a, va_rf x0] S (some (.int r)) S2 C N
def J_nAL_addAt (l : Launch) (G : gG) (Rp : gM → gM → Nat → Prop) : Prop := ∀ (a : Nat) (x0 : Int32) (x1 : Option Nat) (S : gS) (r : Unit) (S2 : gS) (C N : Nat), nAL_addAt a x0 x1 S = some (r, S2, C, N) → gMet l yJ2_add_3 cJ2_add_3 5 (none) 14 500 G Rp [.ref a, .int x0, va_rf x1] S none S2 C N
def J_nAL_addAll (l : Launch) (G : gG) (Rp : gM → gM → Nat → Prop) : Prop := ∀ (a : Nat) (x0 : Option Nat) (S : gS) (r : Int32) (S2 : gS) (C N : Nat), nAL_addAll a x0 S = some (r, S2, C, N) → gMet l yJ2_addAll cJ2_addAll 6 (some .boolean) 14 500 G Rp [.ref a, va_rf x0] S (some (.int r)) S2 C N
def J_nAL_clear (l : Launch) (G : gG) (Rp : gM → gM → Nat → Prop) : Prop := ∀ (a : Nat) (S : gS) (r : Unit) (S2 : gS) (C N : Nat), nAL_clear a S = some (r, S2, C, N) → gMet l yJ2_clear cJ2_clear 4 (none) 14 500 G Rp [.ref a] S none S2 C N
def J_nAL_removeI (l : Launch) (G : gG) (Rp : gM → gM → Nat → Prop) : Prop := ∀ (a : Nat) (x0 : Int32) (S : gS) (r : Option Nat) (S2 : gS) (C N : Nat), nAL_removeI a x0 S = some (r, S2, C, N) → gMet l yJ2_remove_2 cJ2_remove_2 4 (some (.object "java/lang/Object")) 14 500 G Rp [.ref a, .int x0] S (some (va_rf r)) S2 C N
def J_nAL_removeO (l : Launch) (G : gG) (Rp : gM → gM → Nat → Prop) : Prop := ∀ (a : Nat) (x0 : Option Nat) (S : gS) (r : Int32) (S2 : gS) (C N : Nat), nAL_removeO a x0 S = some (r, S2, C, N) → gMet l yJ2_remove cJ2_remove 5 (some .boolean) 14 500 G Rp [.ref a, va_rf x0] S (some (.int r)) S2 C N
def J_nAL_iter (l : Launch) (G : gG) (Rp : gM → gM → Nat → Prop) : Prop := ∀ (a : Nat) (S : gS) (r : Option Nat) (S2 : gS) (C N : Nat), nAL_iter a S = some (r, S2, C, N) → gMet l yJ2_iterator cJ2_iterator 1 (some (.object "java/util/Iterator")) 14 500 G Rp [.ref a] S (some (va_rf r)) S2 C N
def J_nLL_init (l : Launch) (G : gG) (Rp : gM → gM → Nat → Prop) : Prop := ∀ (a : Nat) (S : gS) (r : Unit) (S2 : gS) (C N : Nat), nLL_init a S = some (r, S2, C, N) → gMet l yJ4_init cJ4_init 1 (none) 14 500 G Rp [.ref a] S none S2 C N
def J_nLL_size (l : Launch) (G : gG) (Rp : gM → gM → Nat → Prop) : Prop := ∀ (a : Nat) (S : gS) (r : Int32) (S2 : gS) (C N : Nat), nLL_size a S = some (r, S2, C, N) → gMet l yJ4_size cJ4_size 1 (some .int) 14 500 G Rp [.ref a] S (some (.int r)) S2 C N
def J_nLL_get (l : Launch) (G : gG) (Rp : gM → gM → Nat → Prop) : Prop := ∀ (a : Nat) (x0 : Int32) (S : gS) (r : Option Nat) (S2 : gS) (C N : Nat), nLL_get a x0 S = some (r, S2, C, N) → gMet l yJ4_get cJ4_get 2 (some (.object "java/lang/Object")) 14 500 G Rp [.ref a, .int x0] S (some (va_rf r)) S2 C N
def J_nLL_addLast (l : Launch) (G : gG) (Rp : gM → gM → Nat → Prop) : Prop := ∀ (a : Nat) (x0 : Option Nat) (S : gS) (r : Unit) (S2 : gS) (C N : Nat), nLL_addLast a x0 S = some (r, S2, C, N) → gMet l yJ4_addLast cJ4_addLast 2 (none) 14 500 G Rp [.ref a, va_rf x0] S none S2 C N
def J_nLL_addAll (l : Launch) (G : gG) (Rp : gM → gM → Nat → Prop) : Prop := ∀ (a : Nat) (x0 : Option Nat) (S : gS) (r : Int32) (S2 : gS) (C N : Nat), nLL_addAll a x0 S = some (r, S2, C, N) → gMet l yJ4_addAll cJ4_addAll 2 (some .boolean) 14 500 G Rp [.ref a, va_rf x0] S (some (.int r)) S2 C N
def J_nLL_clear (l : Launch) (G : gG) (Rp : gM → gM → Nat → Prop) : Prop := ∀ (a : Nat) (S : gS) (r : Unit) (S2 : gS) (C N : Nat), nLL_clear a S = some (r, S2, C, N) → gMet l yJ4_clear cJ4_clear 3 (none) 14 500 G Rp [.ref a] S none S2 C N
def J_nLL_removeI (l : Launch) (G : gG) (Rp : gM → gM → Nat → Prop) : Prop := ∀ (a : Nat) (x0 : Int32) (S : gS) (r : Option Nat) (S2 : gS) (C N : Nat), nLL_removeI a x0 S = some (r, S2, C, N) → gMet l yJ4_remove cJ4_remove 2 (some (.object "java/lang/Object")) 14 500 G Rp [.ref a, .int x0] S (some (va_rf r)) S2 C N
def J_nLL_removeFirst (l : Launch) (G : gG) (Rp : gM → gM → Nat → Prop) : Prop := ∀ (a : Nat) (S : gS) (r : Option Nat) (S2 : gS) (C N : Nat), nLL_removeFirst a S = some (r, S2, C, N) → gMet l yJ4_removeFirst cJ4_removeFirst 2 (some (.object "java/lang/Object")) 14 500 G Rp [.ref a] S (some (va_rf r)) S2 C N
def J_nLL_iter (l : Launch) (G : gG) (Rp : gM → gM → Nat → Prop) : Prop := ∀ (a : Nat) (S : gS) (r : Option Nat) (S2 : gS) (C N : Nat), nLL_iter a S = some (r, S2, C, N) → gMet l yJ3_iterator cJ3_iterator 1 (some (.object "java/util/Iterator")) 14 500 G Rp [.ref a] S (some (va_rf r)) S2 C N
def J_nPQ_init (l : Launch) (G : gG) (Rp : gM → gM → Nat → Prop) : Prop := ∀ (a : Nat) (x0 : Int32) (x1 : Option Nat) (S : gS) (r : Unit) (S2 : gS) (C N : Nat), nPQ_init a x0 x1 S = some (r, S2, C, N) → gMet l yJ36_init cJ36_init 3 (none) 14 500 G Rp [.ref a, .int x0, va_rf x1] S none S2 C N
def J_nPQ_add (l : Launch) (G : gG) (Rp : gM → gM → Nat → Prop) : Prop := ∀ (a : Nat) (x0 : Option Nat) (S : gS) (r : Int32) (S2 : gS) (C N : Nat), nPQ_add a x0 S = some (r, S2, C, N) → gMet l yJ36_add cJ36_add 2 (some .boolean) 14 500 G Rp [.ref a, va_rf x0] S (some (.int r)) S2 C N
def J_nPQ_size (l : Launch) (G : gG) (Rp : gM → gM → Nat → Prop) : Prop := ∀ (a : Nat) (S : gS) (r : Int32) (S2 : gS) (C N : Nat), nPQ_size a S = some (r, S2, C, N) → gMet l yJ36_size cJ36_size 1 (some .int) 14 500 G Rp [.ref a] S (some (.int r)) S2 C N
def J_nPQ_iter (l : Launch) (G : gG) (Rp : gM → gM → Nat → Prop) : Prop := ∀ (a : Nat) (S : gS) (r : Option Nat) (S2 : gS) (C N : Nat), nPQ_iter a S = some (r, S2, C, N) → gMet l yJ36_iterator cJ36_iterator 1 (some (.object "java/util/Iterator")) 14 500 G Rp [.ref a] S (some (va_rf r)) S2 C N
def J_nAD_init (l : Launch) (G : gG) (Rp : gM → gM → Nat → Prop) : Prop := ∀ (a : Nat) (S : gS) (r : Unit) (S2 : gS) (C N : Nat), nAD_init a S = some (r, S2, C, N) → gMet l yJ28_init cJ28_init 1 (none) 14 500 G Rp [.ref a] S none S2 C N
def J_nAD_addLast (l : Launch) (G : gG) (Rp : gM → gM → Nat → Prop) : Prop := ∀ (a : Nat) (x0 : Option Nat) (S : gS) (r : Unit) (S2 : gS) (C N : Nat), nAD_addLast a x0 S = some (r, S2, C, N) → gMet l yJ28_addLast cJ28_addLast 3 (none) 14 500 G Rp [.ref a, va_rf x0] S none S2 C N
def J_nAD_isEmpty (l : Launch) (G : gG) (Rp : gM → gM → Nat → Prop) : Prop := ∀ (a : Nat) (S : gS) (r : Int32) (S2 : gS) (C N : Nat), nAD_isEmpty a S = some (r, S2, C, N) → gMet l yJ28_isEmpty cJ28_isEmpty 1 (some .boolean) 14 500 G Rp [.ref a] S (some (.int r)) S2 C N
def J_nAD_pollFirst (l : Launch) (G : gG) (Rp : gM → gM → Nat → Prop) : Prop := ∀ (a : Nat) (S : gS) (r : Option Nat) (S2 : gS) (C N : Nat), nAD_pollFirst a S = some (r, S2, C, N) → gMet l yJ28_pollFirst cJ28_pollFirst 4 (some (.object "java/lang/Object")) 14 500 G Rp [.ref a] S (some (va_rf r)) S2 C N
def J_nAD_iter (l : Launch) (G : gG) (Rp : gM → gM → Nat → Prop) : Prop := ∀ (a : Nat) (S : gS) (r : Option Nat) (S2 : gS) (C N : Nat), nAD_iter a S = some (r, S2, C, N) → gMet l yJ28_iterator cJ28_iterator 1 (some (.object "java/util/Iterator")) 14 500 G Rp [.ref a] S (some (va_rf r)) S2 C N
def J_nBox (l : Launch) (G : gG) (Rp : gM → gM → Nat → Prop) : Prop := ∀ (x0 : Int32) (S : gS) (r : Option Nat) (S2 : gS) (C N : Nat), nBox G x0 S = some (r, S2, C, N) → gMet l yJ23_valueOf cJ23_valueOf 1 (some (.object "java/lang/Integer")) 14 500 G Rp [.int x0] S (some (va_rf r)) S2 C N
def J_nUnbox (l : Launch) (G : gG) (Rp : gM → gM → Nat → Prop) : Prop := ∀ (a : Nat) (S : gS) (r : Int32) (S2 : gS) (C N : Nat), nUnbox a S = some (r, S2, C, N) → gMet l yJ23_intValue cJ23_intValue 1 (some .int) 14 500 G Rp [.ref a] S (some (.int r)) S2 C N
def J_nSt_len (l : Launch) (G : gG) (Rp : gM → gM → Nat → Prop) : Prop := ∀ (a : Nat) (S : gS) (r : Int32) (S2 : gS) (C N : Nat), nSt_len a S = some (r, S2, C, N) → gMet l yJ9_length cJ9_length 1 (some .int) 14 500 G Rp [.ref a] S (some (.int r)) S2 C N
def J_nSt_at (l : Launch) (G : gG) (Rp : gM → gM → Nat → Prop) : Prop := ∀ (a : Nat) (x0 : Int32) (S : gS) (r : Int32) (S2 : gS) (C N : Nat), nSt_at a x0 S = some (r, S2, C, N) → gMet l yJ9_charAt cJ9_charAt 2 (some .char) 14 500 G Rp [.ref a, .int x0] S (some (.int r)) S2 C N
def J_nSt_eq (l : Launch) (G : gG) (Rp : gM → gM → Nat → Prop) : Prop := ∀ (a : Nat) (x0 : Option Nat) (S : gS) (r : Int32) (S2 : gS) (C N : Nat), nSt_eq a x0 S = some (r, S2, C, N) → gMet l yJ9_equals cJ9_equals 3 (some .boolean) 14 500 G Rp [.ref a, va_rf x0] S (some (.int r)) S2 C N
def J_nSB_init (l : Launch) (G : gG) (Rp : gM → gM → Nat → Prop) : Prop := ∀ (a : Nat) (S : gS) (r : Unit) (S2 : gS) (C N : Nat), nSB_init a S = some (r, S2, C, N) → gMet l yJ15_init cJ15_init 1 (none) 14 500 G Rp [.ref a] S none S2 C N
def J_nSB_len (l : Launch) (G : gG) (Rp : gM → gM → Nat → Prop) : Prop := ∀ (a : Nat) (S : gS) (r : Int32) (S2 : gS) (C N : Nat), nSB_len a S = some (r, S2, C, N) → gMet l yJ15_length cJ15_length 1 (some .int) 14 500 G Rp [.ref a] S (some (.int r)) S2 C N
def J_nSB_addC (l : Launch) (G : gG) (Rp : gM → gM → Nat → Prop) : Prop := ∀ (a : Nat) (x0 : Int32) (S : gS) (r : Option Nat) (S2 : gS) (C N : Nat), nSB_addC a x0 S = some (r, S2, C, N) → gMet l yJ15_append_3 cJ15_append_3 2 (some (.object "java/lang/StringBuilder")) 14 500 G Rp [.ref a, .int x0] S (some (va_rf r)) S2 C N
def J_nSB_addS (l : Launch) (G : gG) (Rp : gM → gM → Nat → Prop) : Prop := ∀ (a : Nat) (x0 : Option Nat) (S : gS) (r : Option Nat) (S2 : gS) (C N : Nat), nSB_addS G a x0 S = some (r, S2, C, N) → gMet l yJ15_append cJ15_append 2 (some (.object "java/lang/StringBuilder")) 14 500 G Rp [.ref a, va_rf x0] S (some (va_rf r)) S2 C N
def J_nSB_str (l : Launch) (G : gG) (Rp : gM → gM → Nat → Prop) : Prop := ∀ (a : Nat) (S : gS) (r : Option Nat) (S2 : gS) (C N : Nat), nSB_str G a S = some (r, S2, C, N) → gMet l yJ15_toString cJ15_toString 1 (some (.object "java/lang/String")) 14 500 G Rp [.ref a] S (some (va_rf r)) S2 C N
def J_nI6_hasNext (l : Launch) (G : gG) (Rp : gM → gM → Nat → Prop) : Prop := ∀ (a : Nat) (S : gS) (r : Int32) (S2 : gS) (C N : Nat), nI6_hasNext a S = some (r, S2, C, N) → gMet l yJ26_hasNext cJ26_hasNext 1 (some .boolean) 14 500 G Rp [.ref a] S (some (.int r)) S2 C N
def J_nI6_next (l : Launch) (G : gG) (Rp : gM → gM → Nat → Prop) : Prop := ∀ (a : Nat) (S : gS) (r : Option Nat) (S2 : gS) (C N : Nat), nI6_next a S = some (r, S2, C, N) → gMet l yJ26_next cJ26_next 3 (some (.object "java/lang/Object")) 14 500 G Rp [.ref a] S (some (va_rf r)) S2 C N
def J_nI6_remove (l : Launch) (G : gG) (Rp : gM → gM → Nat → Prop) : Prop := ∀ (a : Nat) (S : gS) (r : Unit) (S2 : gS) (C N : Nat), nI6_remove a S = some (r, S2, C, N) → gMetW l yJ26_remove cJ26_remove 2 (none) [(19, 55, 58, 51)] 14 500 G Rp [.ref a] S none S2 C N
def J_nI7_hasNext (l : Launch) (G : gG) (Rp : gM → gM → Nat → Prop) : Prop := ∀ (a : Nat) (S : gS) (r : Int32) (S2 : gS) (C N : Nat), nI7_hasNext a S = some (r, S2, C, N) → gMet l yJ32_hasNext cJ32_hasNext 1 (some .boolean) 14 500 G Rp [.ref a] S (some (.int r)) S2 C N
def J_nI7_next (l : Launch) (G : gG) (Rp : gM → gM → Nat → Prop) : Prop := ∀ (a : Nat) (S : gS) (r : Option Nat) (S2 : gS) (C N : Nat), nI7_next a S = some (r, S2, C, N) → gMet l yJ32_next cJ32_next 1 (some (.object "java/lang/Object")) 14 500 G Rp [.ref a] S (some (va_rf r)) S2 C N
def J_nI7_remove (l : Launch) (G : gG) (Rp : gM → gM → Nat → Prop) : Prop := ∀ (a : Nat) (S : gS) (r : Unit) (S2 : gS) (C N : Nat), nI7_remove a S = some (r, S2, C, N) → gMet l yJ32_remove cJ32_remove 2 (none) 14 500 G Rp [.ref a] S none S2 C N
def J_nI8_hasNext (l : Launch) (G : gG) (Rp : gM → gM → Nat → Prop) : Prop := ∀ (a : Nat) (S : gS) (r : Int32) (S2 : gS) (C N : Nat), nI8_hasNext a S = some (r, S2, C, N) → gMet l yJ39_hasNext cJ39_hasNext 1 (some .boolean) 14 500 G Rp [.ref a] S (some (.int r)) S2 C N
def J_nI8_next (l : Launch) (G : gG) (Rp : gM → gM → Nat → Prop) : Prop := ∀ (a : Nat) (S : gS) (r : Option Nat) (S2 : gS) (C N : Nat), nI8_next a S = some (r, S2, C, N) → gMet l yJ39_next cJ39_next 1 (some (.object "java/lang/Object")) 14 500 G Rp [.ref a] S (some (va_rf r)) S2 C N
def J_nI9_hasNext (l : Launch) (G : gG) (Rp : gM → gM → Nat → Prop) : Prop := ∀ (a : Nat) (S : gS) (r : Int32) (S2 : gS) (C N : Nat), nI9_hasNext a S = some (r, S2, C, N) → gMet l yJ40_hasNext cJ40_hasNext 1 (some .boolean) 14 500 G Rp [.ref a] S (some (.int r)) S2 C N
def J_nI9_next (l : Launch) (G : gG) (Rp : gM → gM → Nat → Prop) : Prop := ∀ (a : Nat) (S : gS) (r : Option Nat) (S2 : gS) (C N : Nat), nI9_next a S = some (r, S2, C, N) → gMet l yJ40_next cJ40_next 3 (some (.object "java/lang/Object")) 14 500 G Rp [.ref a] S (some (va_rf r)) S2 C N
def JDK (l : Launch) (G : gG) (Rp : gM → gM → Nat → Prop) : Prop := J_recv l G Rp ∧ J_nAL_init l G Rp ∧ J_nAL_size l G Rp ∧ J_nAL_isEmpty l G Rp ∧ J_nAL_get l G Rp ∧ J_nAL_add l G Rp ∧ J_nAL_addAt l G Rp ∧ J_nAL_addAll l G Rp ∧ J_nAL_clear l G Rp ∧ J_nAL_removeI l G Rp ∧ J_nAL_removeO l G Rp ∧ J_nAL_iter l G Rp ∧ J_nLL_init l G Rp ∧ J_nLL_size l G Rp ∧ J_nLL_get l G Rp ∧ J_nLL_addLast l G Rp ∧ J_nLL_addAll l G Rp ∧ J_nLL_clear l G Rp ∧ J_nLL_removeI l G Rp ∧ J_nLL_removeFirst l G Rp ∧ J_nLL_iter l G Rp ∧ J_nPQ_init l G Rp ∧ J_nPQ_add l G Rp ∧ J_nPQ_size l G Rp ∧ J_nPQ_iter l G Rp ∧ J_nAD_init l G Rp ∧ J_nAD_addLast l G Rp ∧ J_nAD_isEmpty l G Rp ∧ J_nAD_pollFirst l G Rp ∧ J_nAD_iter l G Rp ∧ J_nBox l G Rp ∧ J_nUnbox l G Rp ∧ J_nSt_len l G Rp ∧ J_nSt_at l G Rp ∧ J_nSt_eq l G Rp ∧ J_nSB_init l G Rp ∧ J_nSB_len l G Rp ∧ J_nSB_addC l G Rp ∧ J_nSB_addS l G Rp ∧ J_nSB_str l G Rp ∧ J_nI6_hasNext l G Rp ∧ J_nI6_next l G Rp ∧ J_nI6_remove l G Rp ∧ J_nI7_hasNext l G Rp ∧ J_nI7_next l G Rp ∧ J_nI7_remove l G Rp ∧ J_nI8_hasNext l G Rp ∧ J_nI8_next l G Rp ∧ J_nI9_hasNext l G Rp ∧ J_nI9_next l G Rp
theorem j_recv {l : Launch} {G : gG} {Rp : gM → gM → Nat → Prop} (h : JDK l G Rp) : J_recv l G Rp := h.1
theorem j_nAL_init {l : Launch} {G : gG} {Rp : gM → gM → Nat → Prop} (h : JDK l G Rp) : J_nAL_init l G Rp := h.2.1
theorem j_nAL_size {l : Launch} {G : gG} {Rp : gM → gM → Nat → Prop} (h : JDK l G Rp) : J_nAL_size l G Rp := h.2.2.1
theorem j_nAL_isEmpty {l : Launch} {G : gG} {Rp : gM → gM → Nat → Prop} (h : JDK l G Rp) : J_nAL_isEmpty l G Rp := h.2.2.2.1
theorem j_nAL_get {l : Launch} {G : gG} {Rp : gM → gM → Nat → Prop} (h : JDK l G Rp) : J_nAL_get l G Rp := h.2.2.2.2.1
theorem j_nAL_add {l : Launch} {G : gG} {Rp : gM → gM → Nat → Prop} (h : JDK l G Rp) : J_nAL_add l G Rp := h.2.2.2.2.2.1
theorem j_nAL_addAt {l : Launch} {G : gG} {Rp : gM → gM → Nat → Prop} (h : JDK l G Rp) : J_nAL_addAt l G Rp := h.2.2.2.2.2.2.1
theorem j_nAL_addAll {l : Launch} {G : gG} {Rp : gM → gM → Nat → Prop} (h : JDK l G Rp) : J_nAL_addAll l G Rp := h.2.2.2.2.2.2.2.1
theorem j_nAL_clear {l : Launch} {G : gG} {Rp : gM → gM → Nat → Prop} (h : JDK l G Rp) : J_nAL_clear l G Rp := h.2.2.2.2.2.2.2.2.1
theorem j_nAL_removeI {l : Launch} {G : gG} {Rp : gM → gM → Nat → Prop} (h : JDK l G Rp) : J_nAL_removeI l G Rp := h.2.2.2.2.2.2.2.2.2.1
theorem j_nAL_removeO {l : Launch} {G : gG} {Rp : gM → gM → Nat → Prop} (h : JDK l G Rp) : J_nAL_removeO l G Rp := h.2.2.2.2.2.2.2.2.2.2.1
theorem j_nAL_iter {l : Launch} {G : gG} {Rp : gM → gM → Nat → Prop} (h : JDK l G Rp) : J_nAL_iter l G Rp := h.2.2.2.2.2.2.2.2.2.2.2.1
theorem j_nLL_init {l : Launch} {G : gG} {Rp : gM → gM → Nat → Prop} (h : JDK l G Rp) : J_nLL_init l G Rp := h.2.2.2.2.2.2.2.2.2.2.2.2.1
theorem j_nLL_size {l : Launch} {G : gG} {Rp : gM → gM → Nat → Prop} (h : JDK l G Rp) : J_nLL_size l G Rp := h.2.2.2.2.2.2.2.2.2.2.2.2.2.1
theorem j_nLL_get {l : Launch} {G : gG} {Rp : gM → gM → Nat → Prop} (h : JDK l G Rp) : J_nLL_get l G Rp := h.2.2.2.2.2.2.2.2.2.2.2.2.2.2.1
theorem j_nLL_addLast {l : Launch} {G : gG} {Rp : gM → gM → Nat → Prop} (h : JDK l G Rp) : J_nLL_addLast l G Rp := h.2.2.2.2.2.2.2.2.2.2.2.2.2.2.2.1
theorem j_nLL_addAll {l : Launch} {G : gG} {Rp : gM → gM → Nat → Prop} (h : JDK l G Rp) : J_nLL_addAll l G Rp := h.2.2.2.2.2.2.2.2.2.2.2.2.2.2.2.2.1
theorem j_nLL_clear {l : Launch} {G : gG} {Rp : gM → gM → Nat → Prop} (h : JDK l G Rp) : J_nLL_clear l G Rp := h.2.2.2.2.2.2.2.2.2.2.2.2.2.2.2.2.2.1
theorem j_nLL_removeI {l : Launch} {G : gG} {Rp : gM → gM → Nat → Prop} (h : JDK l G Rp) : J_nLL_removeI l G Rp := h.2.2.2.2.2.2.2.2.2.2.2.2.2.2.2.2.2.2.1
theorem j_nLL_removeFirst {l : Launch} {G : gG} {Rp : gM → gM → Nat → Prop} (h : JDK l G Rp) : J_nLL_removeFirst l G Rp := h.2.2.2.2.2.2.2.2.2.2.2.2.2.2.2.2.2.2.2.1
theorem j_nLL_iter {l : Launch} {G : gG} {Rp : gM → gM → Nat → Prop} (h : JDK l G Rp) : J_nLL_iter l G Rp := h.2.2.2.2.2.2.2.2.2.2.2.2.2.2.2.2.2.2.2.2.1
theorem j_nPQ_init {l : Launch} {G : gG} {Rp : gM → gM → Nat → Prop} (h : JDK l G Rp) : J_nPQ_init l G Rp := h.2.2.2.2.2.2.2.2.2.2.2.2.2.2.2.2.2.2.2.2.2.1
theorem j_nPQ_add {l : Launch} {G : gG} {Rp : gM → gM → Nat → Prop} (h : JDK l G Rp) : J_nPQ_add l G Rp := h.2.2.2.2.2.2.2.2.2.2.2.2.2.2.2.2.2.2.2.2.2.2.1
theorem j_nPQ_size {l : Launch} {G : gG} {Rp : gM → gM → Nat → Prop} (h : JDK l G Rp) : J_nPQ_size l G Rp := h.2.2.2.2.2.2.2.2.2.2.2.2.2.2.2.2.2.2.2.2.2.2.2.1
theorem j_nPQ_iter {l : Launch} {G : gG} {Rp : gM → gM → Nat → Prop} (h : JDK l G Rp) : J_nPQ_iter l G Rp := h.2.2.2.2.2.2.2.2.2.2.2.2.2.2.2.2.2.2.2.2.2.2.2.2.1
theorem j_nAD_init {l : Launch} {G : gG} {Rp : gM → gM → Nat → Prop} (h : JDK l G Rp) : J_nAD_init l G Rp := h.2.2.2.2.2.2.2.2.2.2.2.2.2.2.2.2.2.2.2.2.2.2.2.2.2.1
theorem j_nAD_addLast {l : Launch} {G : gG} {Rp : gM → gM → Nat → Prop} (h : JDK l G Rp) : J_nAD_addLast l G Rp := h.2.2.2.2.2.2.2.2.2.2.2.2.2.2.2.2.2.2.2.2.2.2.2.2.2.2.1
theorem j_nAD_isEmpty {l : Launch} {G : gG} {Rp : gM → gM → Nat → Prop} (h : JDK l G Rp) : J_nAD_isEmpty l G Rp := h.2.2.2.2.2.2.2.2.2.2.2.2.2.2.2.2.2.2.2.2.2.2.2.2.2.2.2.1
theorem j_nAD_pollFirst {l : Launch} {G : gG} {Rp : gM → gM → Nat → Prop} (h : JDK l G Rp) : J_nAD_pollFirst l G Rp := h.2.2.2.2.2.2.2.2.2.2.2.2.2.2.2.2.2.2.2.2.2.2.2.2.2.2.2.2.1
theorem j_nAD_iter {l : Launch} {G : gG} {Rp : gM → gM → Nat → Prop} (h : JDK l G Rp) : J_nAD_iter l G Rp := h.2.2.2.2.2.2.2.2.2.2.2.2.2.2.2.2.2.2.2.2.2.2.2.2.2.2.2.2.2.1
theorem j_nBox {l : Launch} {G : gG} {Rp : gM → gM → Nat → Prop} (h : JDK l G Rp) : J_nBox l G Rp := h.2.2.2.2.2.2.2.2.2.2.2.2.2.2.2.2.2.2.2.2.2.2.2.2.2.2.2.2.2.2.1
theorem j_nUnbox {l : Launch} {G : gG} {Rp : gM → gM → Nat → Prop} (h : JDK l G Rp) : J_nUnbox l G Rp := h.2.2.2.2.2.2.2.2.2.2.2.2.2.2.2.2.2.2.2.2.2.2.2.2.2.2.2.2.2.2.2.1
theorem j_nSt_len {l : Launch} {G : gG} {Rp : gM → gM → Nat → Prop} (h : JDK l G Rp) : J_nSt_len l G Rp := h.2.2.2.2.2.2.2.2.2.2.2.2.2.2.2.2.2.2.2.2.2.2.2.2.2.2.2.2.2.2.2.2.1
theorem j_nSt_at {l : Launch} {G : gG} {Rp : gM → gM → Nat → Prop} (h : JDK l G Rp) : J_nSt_at l G Rp := h.2.2.2.2.2.2.2.2.2.2.2.2.2.2.2.2.2.2.2.2.2.2.2.2.2.2.2.2.2.2.2.2.2.1
theorem j_nSt_eq {l : Launch} {G : gG} {Rp : gM → gM → Nat → Prop} (h : JDK l G Rp) : J_nSt_eq l G Rp := h.2.2.2.2.2.2.2.2.2.2.2.2.2.2.2.2.2.2.2.2.2.2.2.2.2.2.2.2.2.2.2.2.2.2.1
theorem j_nSB_init {l : Launch} {G : gG} {Rp : gM → gM → Nat → Prop} (h : JDK l G Rp) : J_nSB_init l G Rp := h.2.2.2.2.2.2.2.2.2.2.2.2.2.2.2.2.2.2.2.2.2.2.2.2.2.2.2.2.2.2.2.2.2.2.2.1
theorem j_nSB_len {l : Launch} {G : gG} {Rp : gM → gM → Nat → Prop} (h : JDK l G Rp) : J_nSB_len l G Rp := h.2.2.2.2.2.2.2.2.2.2.2.2.2.2.2.2.2.2.2.2.2.2.2.2.2.2.2.2.2.2.2.2.2.2.2.2.1
theorem j_nSB_addC {l : Launch} {G : gG} {Rp : gM → gM → Nat → Prop} (h : JDK l G Rp) : J_nSB_addC l G Rp := h.2.2.2.2.2.2.2.2.2.2.2.2.2.2.2.2.2.2.2.2.2.2.2.2.2.2.2.2.2.2.2.2.2.2.2.2.2.1
theorem j_nSB_addS {l : Launch} {G : gG} {Rp : gM → gM → Nat → Prop} (h : JDK l G Rp) : J_nSB_addS l G Rp := h.2.2.2.2.2.2.2.2.2.2.2.2.2.2.2.2.2.2.2.2.2.2.2.2.2.2.2.2.2.2.2.2.2.2.2.2.2.2.1
theorem j_nSB_str {l : Launch} {G : gG} {Rp : gM → gM → Nat → Prop} (h : JDK l G Rp) : J_nSB_str l G Rp := h.2.2.2.2.2.2.2.2.2.2.2.2.2.2.2.2.2.2.2.2.2.2.2.2.2.2.2.2.2.2.2.2.2.2.2.2.2.2.2.1
theorem j_nI6_hasNext {l : Launch} {G : gG} {Rp : gM → gM → Nat → Prop} (h : JDK l G Rp) : J_nI6_hasNext l G Rp := h.2.2.2.2.2.2.2.2.2.2.2.2.2.2.2.2.2.2.2.2.2.2.2.2.2.2.2.2.2.2.2.2.2.2.2.2.2.2.2.2.1
theorem j_nI6_next {l : Launch} {G : gG} {Rp : gM → gM → Nat → Prop} (h : JDK l G Rp) : J_nI6_next l G Rp := h.2.2.2.2.2.2.2.2.2.2.2.2.2.2.2.2.2.2.2.2.2.2.2.2.2.2.2.2.2.2.2.2.2.2.2.2.2.2.2.2.2.1
theorem j_nI6_remove {l : Launch} {G : gG} {Rp : gM → gM → Nat → Prop} (h : JDK l G Rp) : J_nI6_remove l G Rp := h.2.2.2.2.2.2.2.2.2.2.2.2.2.2.2.2.2.2.2.2.2.2.2.2.2.2.2.2.2.2.2.2.2.2.2.2.2.2.2.2.2.2.1
theorem j_nI7_hasNext {l : Launch} {G : gG} {Rp : gM → gM → Nat → Prop} (h : JDK l G Rp) : J_nI7_hasNext l G Rp := h.2.2.2.2.2.2.2.2.2.2.2.2.2.2.2.2.2.2.2.2.2.2.2.2.2.2.2.2.2.2.2.2.2.2.2.2.2.2.2.2.2.2.2.1
theorem j_nI7_next {l : Launch} {G : gG} {Rp : gM → gM → Nat → Prop} (h : JDK l G Rp) : J_nI7_next l G Rp := h.2.2.2.2.2.2.2.2.2.2.2.2.2.2.2.2.2.2.2.2.2.2.2.2.2.2.2.2.2.2.2.2.2.2.2.2.2.2.2.2.2.2.2.2.1
theorem j_nI7_remove {l : Launch} {G : gG} {Rp : gM → gM → Nat → Prop} (h : JDK l G Rp) : J_nI7_remove l G Rp := h.2.2.2.2.2.2.2.2.2.2.2.2.2.2.2.2.2.2.2.2.2.2.2.2.2.2.2.2.2.2.2.2.2.2.2.2.2.2.2.2.2.2.2.2.2.1
theorem j_nI8_hasNext {l : Launch} {G : gG} {Rp : gM → gM → Nat → Prop} (h : JDK l G Rp) : J_nI8_hasNext l G Rp := h.2.2.2.2.2.2.2.2.2.2.2.2.2.2.2.2.2.2.2.2.2.2.2.2.2.2.2.2.2.2.2.2.2.2.2.2.2.2.2.2.2.2.2.2.2.2.1
theorem j_nI8_next {l : Launch} {G : gG} {Rp : gM → gM → Nat → Prop} (h : JDK l G Rp) : J_nI8_next l G Rp := h.2.2.2.2.2.2.2.2.2.2.2.2.2.2.2.2.2.2.2.2.2.2.2.2.2.2.2.2.2.2.2.2.2.2.2.2.2.2.2.2.2.2.2.2.2.2.2.1
theorem j_nI9_hasNext {l : Launch} {G : gG} {Rp : gM → gM → Nat → Prop} (h : JDK l G Rp) : J_nI9_hasNext l G Rp := h.2.2.2.2.2.2.2.2.2.2.2.2.2.2.2.2.2.2.2.2.2.2.2.2.2.2.2.2.2.2.2.2.2.2.2.2.2.2.2.2.2.2.2.2.2.2.2.2.1
theorem j_nI9_next {l : Launch} {G : gG} {Rp : gM → gM → Nat → Prop} (h : JDK l G Rp) : J_nI9_next l G Rp := h.2.2.2.2.2.2.2.2.2.2.2.2.2.2.2.2.2.2.2.2.2.2.2.2.2.2.2.2.2.2.2.2.2.2.2.2.2.2.2.2.2.2.2.2.2.2.2.2.2
