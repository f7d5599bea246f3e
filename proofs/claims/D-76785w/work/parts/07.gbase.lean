/-! BASE of the heap walks: abstract cells, states, contracts, rows. A state S: a map from addresses to abstract cells, and the next address.
    hM: what the map says stands in the heap. Rp ties the map of a level to the map of plain cells (rOK: it bears reading, writing, making plain cells). -/
set_option maxRecDepth 100000
set_option maxHeartbeats 4000000
/-- an object (class number, fields), an array (its kind, length, contents), an abstract thing (its kind, a count, a capacity, contents) -/
abbrev Cel : Type := (Nat × List Value) ⊕ ((Nat × Nat × ((Nat → Int32) ⊕ (Nat → Int64) ⊕ (Nat → Option Nat))) ⊕ (Nat × Int32 × Nat × List Nat))
abbrev gM : Type := Nat → Option Cel
abbrev gS : Type := gM × Nat
abbrev cO (ci : Nat) (fs : List Value) : Cel := .inl (ci, fs)
abbrev cAi (t n : Nat) (f : Nat → Int32) : Cel := .inr (.inl (t, n, .inl f))
abbrev cAl (t n : Nat) (f : Nat → Int64) : Cel := .inr (.inl (t, n, .inr (.inl f)))
abbrev cAq (t n : Nat) (f : Nat → Option Nat) : Cel := .inr (.inl (t, n, .inr (.inr f)))
abbrev cT (t : Nat) (mc : Int32) (cap : Nat) (xs : List Nat) : Cel := .inr (.inr (t, mc, cap, xs))
def gup (M : gM) (a : Nat) (c : Cel) : gM := fun b => if b = a then some c else M b
theorem gup_s (M : gM) (a : Nat) (c : Cel) : gup M a c a = some c := if_pos rfl
theorem gup_n (M : gM) {a b : Nat} (c : Cel) (h : b ≠ a) : gup M a c b = M b := if_neg h
-- answers with the cells and slots that were made
abbrev gO (α : Type) : Type := Option (α × gS × Nat × Nat)
def gb {α β : Type} (o : gO α) (k : α → gS → gO β) : gO β := match o with
  | some q => match k q.1 q.2.1 with
    | some t => some (t.1, t.2.1, q.2.2.1 + t.2.2.1, q.2.2.2 + t.2.2.2)
    | none => none
  | none => none
def ad {β : Type} (c n : Nat) (o : gO β) : gO β := match o with
  | some t => some (t.1, t.2.1, c + t.2.2.1, n + t.2.2.2)
  | none => none
theorem gbo {α β : Type} {o : gO α} {k : α → gS → gO β} {r : β} {Sf : gS} {C N : Nat} (h : gb o k = some (r, Sf, C, N)) : ∃ a S c n c2 n2, o = some (a, S, c, n) ∧ k a S = some (r, Sf, c2, n2) ∧ C = c + c2 ∧ N = n + n2 := by
  cases o with
  | none => cases h
  | some q =>
    obtain ⟨a, S, c, n⟩ := q
    cases hk : k a S with
    | none => simp [gb, hk] at h
    | some t =>
      obtain ⟨b, S2, c2, n2⟩ := t
      simp [gb, hk] at h
      obtain ⟨rfl, rfl, rfl, rfl⟩ := h
      exact ⟨a, S, c, n, c2, n2, rfl, hk, rfl, rfl⟩
theorem ado {β : Type} {o : gO β} {c n : Nat} {r : β} {Sf : gS} {C N : Nat} (h : ad c n o = some (r, Sf, C, N)) : ∃ c2 n2, o = some (r, Sf, c2, n2) ∧ C = c + c2 ∧ N = n + n2 := by
  cases o with
  | none => cases h
  | some t =>
    obtain ⟨b, S2, c2, n2⟩ := t
    simp [ad] at h
    obtain ⟨rfl, rfl, rfl, rfl⟩ := h
    exact ⟨c2, n2, rfl, rfl, rfl⟩
-- reading and writing
def toI (v : Value) : Option Int32 := match v with
  | .int x => some x
  | _ => none
def toJ (v : Value) : Option Int64 := match v with
  | .long x => some x
  | _ => none
def toR (v : Value) : Option (Option Nat) := match v with
  | .ref a => some (some a)
  | .null => some none
  | _ => none
def rdV (S : gS) (a ci k : Nat) : Option Value := match S.1 a with
  | some (.inl q) => if q.1 = ci then q.2[k]? else none
  | _ => none
def rdI (S : gS) (a ci k : Nat) : Option Int32 := (rdV S a ci k).bind toI
def rdR (S : gS) (a ci k : Nat) : Option (Option Nat) := (rdV S a ci k).bind toR
def wr (S : gS) (a ci k : Nat) (v : Value) : Option gS := match S.1 a with
  | some (.inl q) => if q.1 = ci ∧ k < q.2.length then some (gup S.1 a (cO ci (q.2.set k v)), S.2) else none
  | _ => none
def wrz (S : gS) (a ci k : Nat) (x : Int32) : Option gS := if x = nI 0 ∨ x = nI 1 then wr S a ci k (.int x) else none
/-- the class number of an object -/
def clsO (S : gS) (a : Nat) : Option Nat := match S.1 a with
  | some (.inl q) => some q.1
  | _ => none
def rdAi (S : gS) (a t : Nat) (i : Int32) : Option Int32 := match S.1 a with
  | some (.inr (.inl (t', n, .inl f))) => if t' = t ∧ ¬ (i < 0 ∨ n ≤ i.toNatClampNeg) then some (f i.toNatClampNeg) else none
  | _ => none
def rdAl (S : gS) (a t : Nat) (i : Int32) : Option Int64 := match S.1 a with
  | some (.inr (.inl (t', n, .inr (.inl f)))) => if t' = t ∧ ¬ (i < 0 ∨ n ≤ i.toNatClampNeg) then some (f i.toNatClampNeg) else none
  | _ => none
def rdAq (S : gS) (a t : Nat) (i : Int32) : Option (Option Nat) := match S.1 a with
  | some (.inr (.inl (t', n, .inr (.inr f)))) => if t' = t ∧ ¬ (i < 0 ∨ n ≤ i.toNatClampNeg) then some (f i.toNatClampNeg) else none
  | _ => none
def lenA (S : gS) (a : Nat) : Option Int32 := match S.1 a with
  | some (.inr (.inl q)) => some (nI q.2.1)
  | _ => none
/-- a store into an int array (kind 0) -/
def wrAi (S : gS) (a : Nat) (i x : Int32) : Option gS := match S.1 a with
  | some (.inr (.inl (t', n, .inl f))) => if t' = 0 ∧ ¬ (i < 0 ∨ n ≤ i.toNatClampNeg) then some (gup S.1 a (cAi 0 n (upd f i.toNatClampNeg x)), S.2) else none
  | _ => none
def wrAl (S : gS) (a : Nat) (i : Int32) (x : Int64) : Option gS := match S.1 a with
  | some (.inr (.inl (t', n, .inr (.inl f)))) => if t' = 1 ∧ ¬ (i < 0 ∨ n ≤ i.toNatClampNeg) then some (gup S.1 a (cAl 1 n (vp_updL f i.toNatClampNeg x)), S.2) else none
  | _ => none
/-- a store into an array of references: kind t, of the object v of class cv (any class that may lie there) -/
def wrAq (S : gS) (a t : Nat) (i : Int32) (v : Option Nat) : Option gS := match S.1 a with
  | some (.inr (.inl (t', n, .inr (.inr f)))) => if t' = t ∧ ¬ (i < 0 ∨ n ≤ i.toNatClampNeg) then some (gup S.1 a (cAq t n (va_up f i.toNatClampNeg v)), S.2) else none
  | _ => none
/-- a new cell -/
def mk (S : gS) (c : Cel) : gS := (gup S.1 S.2 c, S.2 + 1)
def grem (x y : Int32) : Option Int32 := if y = 0 then none else some (x - x / y * y)
theorem grem_o {x y v : Int32} (h : grem x y = some v) : ¬ y = 0 ∧ v = x - x / y * y := by
  unfold grem at h
  split at h
  next => cases h
  next q => cases h; exact ⟨q, rfl⟩
/-- a boolean answer -/
def zg (v : Int32) (S : gS) : gO Int32 := if v = nI 0 ∨ v = nI 1 then some (v, S, 0, 0) else none
theorem zg_o {v r : Int32} {S Sf : gS} {C N : Nat} (h : zg v S = some (r, Sf, C, N)) : (v = nI 0 ∨ v = nI 1) ∧ v = r ∧ S = Sf ∧ C = 0 ∧ N = 0 := by
  unfold zg at h
  split at h
  next q => cases h; exact ⟨q, rfl, rfl, rfl, rfl⟩
  next => cases h
theorem rdI_o {S : gS} {a ci k : Nat} {x : Int32} (h : rdI S a ci k = some x) : rdV S a ci k = some (.int x) := by
  unfold rdI at h
  cases hv : rdV S a ci k with
  | none => rw [hv] at h; cases h
  | some v =>
    rw [hv] at h
    cases v <;> first | (cases h; rfl) | cases h
theorem rdR_o {S : gS} {a ci k : Nat} {x : Option Nat} (h : rdR S a ci k = some x) : rdV S a ci k = some (va_rf x) := by
  unfold rdR at h
  cases hv : rdV S a ci k with
  | none => rw [hv] at h; cases h
  | some v =>
    rw [hv] at h
    cases v <;> first | (cases h; rfl) | cases h
theorem rdV_o {S : gS} {a ci k : Nat} {v : Value} (h : rdV S a ci k = some v) : ∃ fs, S.1 a = some (cO ci fs) ∧ fs[k]? = some v := by
  unfold rdV at h
  split at h
  next q hq =>
    split at h
    next e => subst e; exact ⟨q.2, hq, h⟩
    next => cases h
  next => cases h
theorem wr_o {S S' : gS} {a ci k : Nat} {v : Value} (h : wr S a ci k v = some S') : ∃ fs, S.1 a = some (cO ci fs) ∧ k < fs.length ∧ S' = (gup S.1 a (cO ci (fs.set k v)), S.2) := by
  unfold wr at h
  split at h
  next q hq =>
    split at h
    next e => obtain ⟨e1, e2⟩ := e; subst e1; cases h; exact ⟨q.2, hq, e2, rfl⟩
    next => cases h
  next => cases h
theorem wrz_o {S S' : gS} {a ci k : Nat} {x : Int32} (h : wrz S a ci k x = some S') : (x = nI 0 ∨ x = nI 1) ∧ wr S a ci k (.int x) = some S' := by
  unfold wrz at h
  split at h
  next q => exact ⟨q, h⟩
  next => cases h
theorem rdAi_o {S : gS} {a t : Nat} {i v : Int32} (h : rdAi S a t i = some v) : ∃ n f, S.1 a = some (cAi t n f) ∧ vp_in i n ∧ v = f i.toNatClampNeg := by
  unfold rdAi at h
  split at h
  next t' n f hq =>
    split at h
    next e => obtain ⟨rfl, e2⟩ := e; cases h; exact ⟨n, f, hq, e2, rfl⟩
    next => cases h
  next => cases h
theorem rdAl_o {S : gS} {a t : Nat} {i : Int32} {v : Int64} (h : rdAl S a t i = some v) : ∃ n f, S.1 a = some (cAl t n f) ∧ vp_in i n ∧ v = f i.toNatClampNeg := by
  unfold rdAl at h
  split at h
  next t' n f hq =>
    split at h
    next e => obtain ⟨rfl, e2⟩ := e; cases h; exact ⟨n, f, hq, e2, rfl⟩
    next => cases h
  next => cases h
theorem rdAq_o {S : gS} {a t : Nat} {i : Int32} {v : Option Nat} (h : rdAq S a t i = some v) : ∃ n f, S.1 a = some (cAq t n f) ∧ vp_in i n ∧ v = f i.toNatClampNeg := by
  unfold rdAq at h
  split at h
  next t' n f hq =>
    split at h
    next e => obtain ⟨rfl, e2⟩ := e; cases h; exact ⟨n, f, hq, e2, rfl⟩
    next => cases h
  next => cases h
theorem wrAi_o {S S' : gS} {a : Nat} {i x : Int32} (h : wrAi S a i x = some S') : ∃ n f, S.1 a = some (cAi 0 n f) ∧ vp_in i n ∧ S' = (gup S.1 a (cAi 0 n (upd f i.toNatClampNeg x)), S.2) := by
  unfold wrAi at h
  split at h
  next t' n f hq =>
    split at h
    next e => obtain ⟨rfl, e2⟩ := e; cases h; exact ⟨n, f, hq, e2, rfl⟩
    next => cases h
  next => cases h
theorem wrAl_o {S S' : gS} {a : Nat} {i : Int32} {x : Int64} (h : wrAl S a i x = some S') : ∃ n f, S.1 a = some (cAl 1 n f) ∧ vp_in i n ∧ S' = (gup S.1 a (cAl 1 n (vp_updL f i.toNatClampNeg x)), S.2) := by
  unfold wrAl at h
  split at h
  next t' n f hq =>
    split at h
    next e => obtain ⟨rfl, e2⟩ := e; cases h; exact ⟨n, f, hq, e2, rfl⟩
    next => cases h
  next => cases h
theorem wrAq_o {S S' : gS} {a t : Nat} {i : Int32} {v : Option Nat} (h : wrAq S a t i v = some S') : ∃ n f, S.1 a = some (cAq t n f) ∧ vp_in i n ∧ S' = (gup S.1 a (cAq t n (va_up f i.toNatClampNeg v)), S.2) := by
  unfold wrAq at h
  split at h
  next t' n f hq =>
    split at h
    next e => obtain ⟨rfl, e2⟩ := e; cases h; exact ⟨n, f, hq, e2, rfl⟩
    next => cases h
  next => cases h
theorem lenA_o {S : gS} {a : Nat} {v : Int32} (h : lenA S a = some v) : ∃ q, S.1 a = some (.inr (.inl q)) ∧ v = nI q.2.1 := by
  unfold lenA at h
  split at h
  next q hq => cases h; exact ⟨q, hq, rfl⟩
  next => cases h
-- the heap
abbrev sameK (c c' : Cel) : Prop := match c, c' with
  | .inl q, .inl q' => q.1 = q'.1
  | .inr (.inl q), .inr (.inl q') => q.1 = q'.1
  | _, _ => False
def toE (dA : Nat → ClassId) (c : Cel) : Option va_E := match c with
  | .inl q => some (.inr q)
  | .inr (.inl (t, n, .inl f)) => some (.inl (dA t, n, .inl f))
  | .inr (.inl (t, n, .inr (.inl f))) => some (.inl (dA t, n, .inr (.inl f)))
  | .inr (.inl (t, n, .inr (.inr f))) => some (.inl (dA t, n, .inr (.inr (.inr (.inr f)))))
  | .inr (.inr _) => none
def hM (G : gG) (M : gM) (H : Heap) : Prop := ∃ ws : va_W, va_P G.1 gCl ws H ∧ va_D G.2.2.2 ws ∧ ∀ a c, M a = some c → ∃ e, toE G.2.1 c = some e ∧ (a, e) ∈ ws
/-- a level: N is what its methods see, M the plain cells, nx the next address -/
def rOK (Rp : gM → gM → Nat → Prop) : Prop :=
  (∀ N M nx a c, Rp N M nx → N a = some (.inl c) → M a = some (.inl c)) ∧
  (∀ N M nx a c, Rp N M nx → N a = some (.inr (.inl c)) → M a = some (.inr (.inl c))) ∧
  (∀ N M nx a c c' dA, Rp N M nx → N a = some c → sameK c c' → toE dA c ≠ none → toE dA c' ≠ none → Rp (gup N a c') (gup M a c') nx) ∧
  (∀ N M nx c' dA, Rp N M nx → toE dA c' ≠ none → Rp (gup N nx c') (gup M nx c') (nx + 1)) ∧
  (∀ N M nx n, Rp N M nx → nx ≤ n → Rp N M n)
def hp (G : gG) (Rp : gM → gM → Nat → Prop) (S : gS) (H : Heap) : Prop := ∃ M, hM G M H ∧ H.size = S.2 ∧ Rp S.1 M S.2
abbrev gTy (dA : Nat → ClassId) : List (ClassId × FieldType) := [(dA 0, .int), (dA 1, .long), (dA 2, .byte), (dA 3, .short), (dA 4, .boolean), (dA 5, .object "java/lang/Object"), (dA 6, .object "CreditBroker$Sheet")]
/-- what is known of tables and of the cells that nobody writes -/
def gE (G : gG) (U : State) (H : Heap) : Prop := va_K G.1 gCl (gTy G.2.1) U ∧ gW U ∧ gZ G U H
theorem gE.to {G : gG} {u U : State} {H H1 : Heap} (hvm : u.vm.Alike U.vm) (hW : u.WarmedH U.vm) (hk : ∀ a : Nat, a < H.size → ¬ G.2.2.2 a → H1[a]? = H[a]?) (h : gE G u H) : gE G U H1 := ⟨va_K.moved hvm h.1, gW.to hW h.2.1, gZ.to hvm hW hk h.2.2⟩
abbrev gR (fr lo mc ms : Nat) : Room := { frames := fr, cells := mc, slots := ms, locals := lo }
def gPc (G : gG) (Rp : gM → gM → Nat → Prop) (av : List Value) (S : gS) : Array Value → State → Prop := va_Pc av (fun U => hp G Rp S U.heap ∧ gE G U U.heap ∧ ∀ q : Nat, U.heap.size ≤ q → G.2.2.2 q)
def gQc (G : gG) (Rp : gM → gM → Nat → Prop) (r : Option Value) (S2 : gS) : Array Value → State → Outcome → State → Prop := fun _ st o t => o = .returned r ∧ hp G Rp S2 t.heap ∧ va_F G.2.2.2 st t
def gMet (l : Launch) (y : MethodName) (cc : ByteArray) (maxL : Nat) (ret : Option FieldType) (fr lo : Nat) (G : gG) (Rp : gM → gM → Nat → Prop) (av : List Value) (S : gS) (r : Option Value) (S2 : gS) (C N : Nat) : Prop :=
  Met l y (ws_ y cc maxL ret) (gR fr lo C N) (gPc G Rp av S) (gQc G Rp r S2) C N G.2.2.2
abbrev gQ (below : List Frame) (G : gG) (Rp : gM → gM → Nat → Prop) (r : Option Value) (Sf : gS) (args : Array Value) (s : State) (mc ms : Nat) : State → Prop := MQ below (gQc G Rp r Sf) args s mc ms G.2.2.2
def gC (p : Program) (s : State) (m : MethodId) (args : Array Value) (meth : Method) (c : Code) (G : gG) (own nm : String) (cc : ByteArray) (nL : Nat) (ret : Option FieldType) : Prop :=
  p.tables.exec = Jvm.exec ∧ c.code = cc ∧ meth.sig.returnType = ret ∧ meth.locks = false ∧ c.maxLocals = nL ∧ s.vm.findClass own = some m.cls ∧ (∀ w ∈ lw_all, w.before args s = true) ∧ gE G s s.heap ∧ (∀ q : Nat, s.heap.size ≤ q → G.2.2.2 q) ∧ meth.name = nm
section
variable {p : Program} {l : Launch} {e : Env} {s : State} {m : MethodId} {args : Array Value} {below : List Frame} {meth : Method} {c : Code} {G : gG} {Rp : gM → gM → Nat → Prop} {R : Room} {H : Heap} {locs : List Loc} {Q : State → Prop} {cc : ByteArray} {ls : Array Slot} {rest : List Value} {pc : Nat} {kc ks : Nat}
theorem va_rf_cat (o : Option Nat) : (va_rf o).category = 1 := by cases o <;> rfl
theorem g_blind {av : List Value} {S : gS} : FrameBlind (gPc G Rp av S) := by
  intro a U g mk q
  obtain ⟨q0, qH, qE, qA⟩ := q
  exact ⟨q0, qH, gE.to (u := U) (U := U.calling g mk a) (H := U.heap) (Vm.Alike.refl U.vm) (State.WarmedH.refl U) (fun _ _ _ => rfl) qE, qA⟩
theorem g_start {y : MethodName} {maxL fr lo C N : Nat} {ret : Option FieldType} {av : List Value} {S S2 : gS} {r : Option Value} (hy : plainName y.cls = true) (hn : (lg_sl av).length ≤ maxL)
    (body : ∀ (p : Program) (e : Env) (s : State) (m : MethodId) (args : Array Value) (below : List Frame) (meth : Method) (c : Code) (ls : Array Slot), gC p s m args meth c G y.cls y.name cc maxL ret → lv_has ls maxL (lv_args 0 av) → hp G Rp S s.heap → W p l e (gR fr lo C N) s m args below meth c s.heap [] 0 0 (gQ below G Rp r S2 args s C N) (F0 m 0 ls [])) :
    gMet l y cc maxL ret fr lo G Rp av S r S2 C N := by
  refine Met.ofW (cc := cc) (maxL := maxL) (ret := ret) hy rfl ?_
  intro p e s m args below meth c s₁ B hml hv
  obtain ⟨hav, hH, hE, hA⟩ := hv
  have hts := atoms_spec (ws := ws_ y cc maxL ret) B.pre
  have hts : ∀ w ∈ lw_all, w.before args s = true := fun w h => hts w (List.mem_cons_of_mem _ h)
  have hown : s.vm.findClass y.cls = some m.cls := findClass_of_methodNamed B.named
  have hin : meth.name = y.name := (name_of_methodNamed B.named B.method).1
  have hl := lv_entry av (n := maxL) hn
  rw [hav, lg_entry_eq]
  rw [← hav]
  exact body p e s m args below meth c _ ⟨B.exec, B.bytes, B.returns, B.notSynchronized, hml, hown, hts, hE, hA, hin⟩ hl hH
theorem hp_obj (hk : rOK Rp) {S : gS} {a ci : Nat} {fs : List Value} (h : hp G Rp S H) (e1 : S.1 a = some (cO ci fs)) : va_P G.1 gCl [(a, .inr (ci, fs))] H := by
  obtain ⟨M, ⟨ws, hP, hD, hw⟩, hz, hr⟩ := h
  obtain ⟨x, hx, hm⟩ := hw a _ (hk.1 _ _ _ _ _ hr e1)
  cases hx
  obtain ⟨i, hi⟩ := List.getElem?_of_mem hm
  intro k q hq
  cases k with
  | zero => cases hq; exact hP i _ hi
  | succ k => simp at hq
theorem hp_arr (hk : rOK Rp) {S : gS} {a : Nat} {q : Nat × Nat × ((Nat → Int32) ⊕ (Nat → Int64) ⊕ (Nat → Option Nat))} (h : hp G Rp S H) (e1 : S.1 a = some (.inr (.inl q))) : ∃ e, toE G.2.1 (.inr (.inl q)) = some e ∧ va_P G.1 gCl [(a, e)] H := by
  obtain ⟨M, ⟨ws, hP, hD, hw⟩, hz, hr⟩ := h
  obtain ⟨x, hx, hm⟩ := hw a _ (hk.2.1 _ _ _ _ _ hr e1)
  obtain ⟨i, hi⟩ := List.getElem?_of_mem hm
  refine ⟨x, hx, ?_⟩
  intro k q hq
  cases k with
  | zero => cases hq; exact hP i _ hi
  | succ k => simp at hq
/-- the world as a list: a cell's place in it, and what is behind a write there -/
theorem hp_ws (hk : rOK Rp) {S : gS} {a : Nat} {c : Cel} {e : va_E} (h : hp G Rp S H) (e1 : S.1 a = some c) (he : toE G.2.1 c = some e) :
    ∃ (ws : va_W) (i : Nat), va_P G.1 gCl ws H ∧ va_D G.2.2.2 ws ∧ ws[i]? = some (a, e) ∧ ∀ (c' : Cel) (e' : va_E) (H1 : Heap), toE G.2.1 c' = some e' → H1.size = H.size → va_P G.1 gCl (ws.set i (a, e')) H1 → va_D G.2.2.2 (ws.set i (a, e')) → sameK c c' → hp G Rp (gup S.1 a c', S.2) H1 := by
  obtain ⟨M, ⟨ws, hP, hD, hw⟩, hz, hr⟩ := h
  have hM1 : M a = some c := by
    cases c with
    | inl o => exact hk.1 _ _ _ _ _ hr e1
    | inr o =>
      cases o with
      | inl o => exact hk.2.1 _ _ _ _ _ hr e1
      | inr o => cases he
  obtain ⟨x, hx, hm⟩ := hw a _ hM1
  have hxe : x = e := Option.some.inj (hx.symm.trans he)
  subst hxe
  obtain ⟨i, hi⟩ := List.getElem?_of_mem hm
  refine ⟨ws, i, hP, hD, hi, fun c' e' H1 h1 h2 h3 h4 h5 => ⟨gup M a c', ⟨ws.set i (a, e'), h3, h4, ?_⟩, h2.trans hz, ?_⟩⟩
  · intro b d hb
    by_cases hba : b = a
    · subst hba
      rw [gup_s] at hb
      cases hb
      exact ⟨e', h1, List.mem_of_getElem? (List.getElem?_set_self (List.getElem?_eq_some_iff.mp hi).1)⟩
    · rw [gup_n M c' hba] at hb
      obtain ⟨y, hy, hmy⟩ := hw b d hb
      refine ⟨y, hy, ?_⟩
      obtain ⟨j, hj⟩ := List.getElem?_of_mem hmy
      have hij : i ≠ j := fun q => by
        subst q
        rw [hi] at hj
        cases hj
        exact hba rfl
      exact List.mem_of_getElem? ((List.getElem?_set_ne hij).trans hj)
  · exact hk.2.2.1 _ _ _ _ _ _ G.2.1 hr e1 h5 (by rw [hx]; simp) (by rw [h1]; simp)
/-- the world with one more cell -/
theorem hp_new (hk : rOK Rp) {S : gS} (h : hp G Rp S H) : ∃ (ws : va_W), va_P G.1 gCl ws H ∧ va_D G.2.2.2 ws ∧ H.size = S.2 ∧ ∀ (c' : Cel) (e' : va_E) (H1 : Heap), toE G.2.1 c' = some e' → H1.size = H.size + 1 → va_P G.1 gCl (ws ++ [(S.2, e')]) H1 → va_D G.2.2.2 (ws ++ [(S.2, e')]) → hp G Rp (mk S c') H1 := by
  obtain ⟨M, ⟨ws, hP, hD, hw⟩, hz, hr⟩ := h
  refine ⟨ws, hP, hD, hz, fun c' e' H1 h1 h2 h3 h4 => ⟨gup M S.2 c', ⟨ws ++ [(S.2, e')], h3, h4, ?_⟩, by rw [h2, hz]; rfl, ?_⟩⟩
  · intro b d hb
    by_cases hba : b = S.2
    · subst hba
      rw [gup_s] at hb
      cases hb
      exact ⟨e', h1, List.mem_append_right _ List.mem_cons_self⟩
    · rw [gup_n M c' hba] at hb
      obtain ⟨y, hy, hmy⟩ := hw b d hb
      exact ⟨y, hy, List.mem_append_left _ hmy⟩
  · exact hk.2.2.2.1 _ _ _ _ G.2.1 hr (by rw [h1]; simp)
theorem g_get {own ref C : String} {T : u_T} {N ci index k : Nat} {o : Option Nat} {a : Nat} {v : Value} {S : gS} (hx : p.tables.exec = Jvm.exec) (hb : c.code = cc) (hts : ∀ w ∈ lw_all, w.before args s = true) (hown : s.vm.findClass own = some m.cls) (hE : gE G s s.heap) (hk : rOK Rp) (hH : hp G Rp S H) (hin : ∀ w ∈ u_ws C T N, w ∈ lw_all) (hc : gCl[ci]? = some (C, T, N)) (hkN : k < N) (hlink : (Cond.fieldLink own index ref (T k).2.1 (T k).2.2.1).before args s = true) (hsame : ∀ x, s.fieldFound? (T k).1 (T k).2.1 (T k).2.2.1 = some x → s.fieldFound? ref (T k).2.1 (T k).2.2.1 = some x) (eo : o = some a) (e1 : rdV S a ci k = some v) (hdg : decode cc pc = .ok (.getfield index, 3))
    (kk : W p l e R s m args below meth c H locs kc ks Q (F0 m (pc + 3) ls (v :: rest))) : W p l e R s m args below meth c H locs kc ks Q (F0 m pc ls (va_rf o :: rest)) := by
  subst eo
  obtain ⟨fs, e2, e3⟩ := rdV_o e1
  exact va_get (D := G.1) (ci := ci) (v := v) (C := C) (T := T) (N := N) hx hb hts hin hown hE.1 (hp_obj hk hH e2) 0 rfl hc k hkN hlink hsame e3 hdg kk
theorem g_getN {own ref C host : String} {T : u_T} {N ci index k : Nat} {o : Option Nat} {a : Nat} {v : Value} {S : gS} (hx : p.tables.exec = Jvm.exec) (hb : c.code = cc) (hts : ∀ w ∈ lw_all, w.before args s = true) (hown : s.vm.findClass own = some m.cls) (hE : gE G s s.heap) (hk : rOK Rp) (hH : hp G Rp S H) (hin : ∀ w ∈ u_ws C T N, w ∈ lw_all) (hc : gCl[ci]? = some (C, T, N)) (hkN : k < N) (hlink : (Cond.fieldLinkNest own index ref (T k).2.1 (T k).2.2.1 host).before args s = true) (hsame : ∀ x, s.fieldFound? (T k).1 (T k).2.1 (T k).2.2.1 = some x → s.fieldFound? ref (T k).2.1 (T k).2.2.1 = some x) (eo : o = some a) (e1 : rdV S a ci k = some v) (hdg : decode cc pc = .ok (.getfield index, 3))
    (kk : W p l e R s m args below meth c H locs kc ks Q (F0 m (pc + 3) ls (v :: rest))) : W p l e R s m args below meth c H locs kc ks Q (F0 m pc ls (va_rf o :: rest)) := by
  subst eo
  obtain ⟨fs, e2, e3⟩ := rdV_o e1
  exact va_getN (D := G.1) (ci := ci) (v := v) (C := C) (T := T) (N := N) hx hb hts hin hown hE.1 (hp_obj hk hH e2) 0 rfl hc k hkN hlink hsame e3 hdg kk
theorem g_put {own ref C : String} {T : u_T} {N ci index k : Nat} {o : Option Nat} {a : Nat} {v : Value} {S S' : gS} {ty0 : Nat → FieldType} {ty : FieldType} (hx : p.tables.exec = Jvm.exec) (hb : c.code = cc) (hts : ∀ w ∈ lw_all, w.before args s = true) (hown : s.vm.findClass own = some m.cls) (hE : gE G s s.heap) (hk : rOK Rp) (hH : hp G Rp S H) (hS : va_S G.2.2.2 s.heap H locs) (hz : H.size = H.size) (hin : ∀ w ∈ u_ws C T N, w ∈ lw_all) (hty : ∀ k, k < N → parseFieldDescriptor (T k).2.2.1 = some (ty0 k)) (hnm : ∀ a, a < N → ∀ b, b < N → a ≠ b → (T a).2.1 ≠ (T b).2.1) (hc : gCl[ci]? = some (C, T, N)) (hkN : k < N) (hlink : (Cond.fieldLink own index ref (T k).2.1 (T k).2.2.1).before args s = true) (hsame : ∀ x, s.fieldFound? (T k).1 (T k).2.1 (T k).2.2.1 = some x → s.fieldFound? ref (T k).2.1 (T k).2.2.1 = some x) (hfin : (T k).2.2.2 = false) (hd : ty0 k = ty) (hn : narrow ty v = v) (hfit : fits ty v = true) (eo : o = some a) (e1 : wr S a ci k v = some S') (hdg : decode cc pc = .ok (.putfield index, 3))
    (kk : ∀ (H1 : Heap) (locs1 : List Loc), hp G Rp S' H1 → va_S G.2.2.2 s.heap H1 locs1 → W p l e R s m args below meth c H1 locs1 kc ks Q (F0 m (pc + 3) ls rest)) : W p l e R s m args below meth c H locs kc ks Q (F0 m pc ls (v :: va_rf o :: rest)) := by
  subst eo
  obtain ⟨fs, e2, e3, rfl⟩ := wr_o e1
  obtain ⟨ws, i, hP, hD, hi, hback⟩ := hp_ws hk hH e2 rfl
  obtain ⟨hS1, hfc, kC, hkC, hkind⟩ := hE.1.1 ci _ hc
  obtain ⟨cf, kf, fi, f, hif, hsl⟩ := hS1 k hkN
  have hap := va_apart (own := own) hts hin ty0 hty hnm hE.1 hc
  obtain ⟨r, h1, cell, q1, q2, q3, q4⟩ := hP i _ hi
  have hr : r = (C, T, N) := Option.some.inj (h1.symm.trans hc)
  subst hr
  have hlay := hts _ (hin _ (u_in_lay hkN))
  unfold u_lay at hlay
  rw [if_neg (by rw [hfin]; decide)] at hlay
  have hst := (u_facts hfc hkC (u_lays hts hin hkN) hif).1
  have h6 := u_store hfc hkC hkind hlay hif ((hty k hkN).trans (congrArg some hd)) hn hfit
  refine W.putK hx hb (f := f) ⟨hown, hlink, ⟨_, _, _, hsame _ hif⟩, hst⟩ (by rw [q2]; exact h6) q1 q3 (by rw [hsl]; exact k2_hasslot (q4 k hkN)) rfl rfl hdg fun H' y1 y2 y3 => ?_
  rw [hsl] at y1 ⊢
  exact kk H' _ (hback _ _ H' rfl y2 (hP.set hD hi ⟨_, hc, t_OB.to (V := updV (vp_V fs) k v) ⟨_, y1, q2, q3, t_set q4 hap hkN v⟩ (fun j _ => vp_updV_set e3 v j)⟩ y3) (hD.set hi) rfl) (hS.put y2 y3 (hD.2 i _ hi))
theorem g_putF {own ref C : String} {T : u_T} {N ci index k : Nat} {o : Option Nat} {a : Nat} {v : Value} {S S' : gS} {ty0 : Nat → FieldType} {ty : FieldType} (hx : p.tables.exec = Jvm.exec) (hb : c.code = cc) (hts : ∀ w ∈ lw_all, w.before args s = true) (hown : s.vm.findClass own = some m.cls) (hE : gE G s s.heap) (hk : rOK Rp) (hH : hp G Rp S H) (hS : va_S G.2.2.2 s.heap H locs) (hz : H.size = H.size) (hin : ∀ w ∈ u_ws C T N, w ∈ lw_all) (hty : ∀ k, k < N → parseFieldDescriptor (T k).2.2.1 = some (ty0 k)) (hnm : ∀ a, a < N → ∀ b, b < N → a ≠ b → (T a).2.1 ≠ (T b).2.1) (hc : gCl[ci]? = some (C, T, N)) (hkN : k < N) (hlink : (Cond.fieldLink own index ref (T k).2.1 (T k).2.2.1).before args s = true) (hsame : ∀ x, s.fieldFound? (T k).1 (T k).2.1 (T k).2.2.1 = some x → s.fieldFound? ref (T k).2.1 (T k).2.2.1 = some x) (hfin : (T k).2.2.2 = true) (hin2 : meth.name = "<init>") (hdecl : (T k).1 = own) (hd : ty0 k = ty) (hn : narrow ty v = v) (hfit : fits ty v = true) (eo : o = some a) (e1 : wr S a ci k v = some S') (hdg : decode cc pc = .ok (.putfield index, 3))
    (kk : ∀ (H1 : Heap) (locs1 : List Loc), hp G Rp S' H1 → va_S G.2.2.2 s.heap H1 locs1 → W p l e R s m args below meth c H1 locs1 kc ks Q (F0 m (pc + 3) ls rest)) : W p l e R s m args below meth c H locs kc ks Q (F0 m pc ls (v :: va_rf o :: rest)) := by
  subst eo
  obtain ⟨fs, e2, e3, rfl⟩ := wr_o e1
  obtain ⟨ws, i, hP, hD, hi, hback⟩ := hp_ws hk hH e2 rfl
  obtain ⟨hS1, hfc, kC, hkC, hkind⟩ := hE.1.1 ci _ hc
  obtain ⟨cf, kf, fi, f, hif, hsl⟩ := hS1 k hkN
  have hap := va_apart (own := own) hts hin ty0 hty hnm hE.1 hc
  obtain ⟨r, h1, cell, q1, q2, q3, q4⟩ := hP i _ hi
  have hr : r = (C, T, N) := Option.some.inj (h1.symm.trans hc)
  subst hr
  have hlay := hts _ (hin _ (u_in_lay hkN))
  unfold u_lay at hlay
  rw [if_pos hfin] at hlay
  have hst := (u_facts hfc hkC (u_lays hts hin hkN) hif).1
  have hcf : m.cls = cf := by
    obtain ⟨_, _, c', _, _, _, -, -, hf', -, -, -, hown2, -⟩ := Cond.laysFinal_spec hlay
    have z1 : c' = cf := by have := hif.symm.trans hf'; simp at this; exact this.1.symm
    rw [hdecl] at hown2
    rw [← z1]; exact Option.some.inj (hown.symm.trans hown2)
  have h6 := u_fits hfc hkC hkind (Or.inr hlay) hif ((hty k hkN).trans (congrArg some hd)) hn hfit
  refine W.putFinK hx hb hown hlink (hsame _ hif) hst hcf hin2 (by rw [q2]; exact h6) q1 q3 (by rw [hsl]; exact k2_hasslot (q4 k hkN)) rfl rfl hdg fun H' y1 y2 y3 => ?_
  rw [hsl] at y1 ⊢
  exact kk H' _ (hback _ _ H' rfl y2 (hP.set hD hi ⟨_, hc, t_OB.to (V := updV (vp_V fs) k v) ⟨_, y1, q2, q3, t_set q4 hap hkN v⟩ (fun j _ => vp_updV_set e3 v j)⟩ y3) (hD.set hi) rfl) (hS.put y2 y3 (hD.2 i _ hi))
theorem g_new {own C : String} {T : u_T} {N ci index : Nat} {ty : Nat → FieldType} {fs : List Value} {S : gS} (hx : p.tables.exec = Jvm.exec) (hb : c.code = cc) (hts : ∀ w ∈ lw_all, w.before args s = true) (hown : s.vm.findClass own = some m.cls) (hE : gE G s s.heap) (hA : ∀ q : Nat, s.heap.size ≤ q → G.2.2.2 q) (hk : rOK Rp) (hH : hp G Rp S H) (hS : va_S G.2.2.2 s.heap H locs) (hin : ∀ w ∈ u_ws C T N, w ∈ lw_all) (hty : ∀ k, k < N → parseFieldDescriptor (T k).2.2.1 = some (ty k)) (hcl : (Cond.classLink own index C).before args s = true) (hinst : (Cond.instantiable C N).before args s = true) (hini : (Cond.initialized C).before args s = true) (hc : gCl[ci]? = some (C, T, N)) (hfs : ∀ j, j < N → defaultValue (ty j) = vp_V fs j) (hcells : kc + 1 ≤ R.cells) (hslots : ks + N ≤ R.slots) (hdg : decode cc pc = .ok (.new index, 3))
    (kk : ∀ (H1 : Heap), hp G Rp (mk S (cO ci fs)) H1 → va_S G.2.2.2 s.heap H1 locs → W p l e R s m args below meth c H1 locs (kc + 1) (ks + N) Q (F0 m (pc + 3) ls (.ref S.2 :: rest))) : W p l e R s m args below meth c H locs kc ks Q (F0 m pc ls rest) := by
  obtain ⟨ws, hP, hD, hz, hback⟩ := hp_new hk hH
  have hKn := hE.1.1 ci _ hc
  refine W.newcK hx hb hown hcl hinst hini rfl hdg hcells hslots hKn.2.1 rfl fun H1 kC hkC e1 z1 o1 => ?_
  have hk1 : ∀ (k : Nat) (x : Nat × va_E), ws[k]? = some x → H1[x.1]? = H[x.1]? := fun k x hx => o1 x.1 ((hP k x hx).lt)
  rw [hz]
  refine kk H1 (hback _ _ H1 rfl z1 ((hP.kept hk1).app (fun k x hx => ?_)) (hD.push hP hz.symm (hA _ (by rw [← hz]; exact hS.1)))) ⟨Nat.le_trans hS.1 (by omega), fun x h1 h2 => (o1 x (Nat.lt_of_lt_of_le h1 hS.1)).trans (hS.2.1 x h1 h2), hS.2.2⟩
  have hz1 : k < 1 := (List.getElem?_eq_some_iff.mp hx).1
  rw [show k = 0 by omega] at hx
  cases hx
  exact ⟨_, hc, (u_born ty hts hin hKn hkC (by rw [hz] at e1; exact e1) hty).to hfs⟩
theorem g_aalen {o : Option Nat} {a : Nat} {v : Int32} {S : gS} (hx : p.tables.exec = Jvm.exec) (hb : c.code = cc) (hE : gE G s s.heap) (hk : rOK Rp) (hH : hp G Rp S H) (ht : ∀ t f, S.1 a = some (.inr (.inl (t, f))) → ∃ (t0 : Nat) (ty : FieldType), (gTy G.2.1)[t0]? = some (G.2.1 t, ty)) (eo : o = some a) (e1 : lenA S a = some v) (hdg : decode cc pc = .ok (.arraylength, 1))
    (kk : W p l e R s m args below meth c H locs kc ks Q (F0 m (pc + 1) ls (.int v :: rest))) : W p l e R s m args below meth c H locs kc ks Q (F0 m pc ls (va_rf o :: rest)) := by
  subst eo
  obtain ⟨⟨t, n, f⟩, e2, rfl⟩ := lenA_o e1
  obtain ⟨x, hx1, hP⟩ := hp_arr hk hH e2
  obtain ⟨t0, ty, ht0⟩ := ht _ _ e2
  rcases f with f | f | f <;> cases hx1 <;> exact va_alen hx hb hE.1 hP 0 t0 rfl ht0 rfl hdg kk
theorem g_iald {o : Option Nat} {a : Nat} {i v : Int32} {S : gS} (hx : p.tables.exec = Jvm.exec) (hb : c.code = cc) (hE : gE G s s.heap) (hk : rOK Rp) (hH : hp G Rp S H) (eo : o = some a) (e1 : rdAi S a 0 i = some v) (hdg : decode cc pc = .ok (.iaload, 1))
    (kk : W p l e R s m args below meth c H locs kc ks Q (F0 m (pc + 1) ls (.int v :: rest))) : W p l e R s m args below meth c H locs kc ks Q (F0 m pc ls (.int i :: va_rf o :: rest)) := by
  subst eo
  obtain ⟨n, f, e2, e3, rfl⟩ := rdAi_o e1
  obtain ⟨x, hx1, hP⟩ := hp_arr hk hH e2
  cases hx1
  exact va_iald hx hb hE.1 hP 0 0 rfl rfl e3 hdg kk
theorem g_bald {o : Option Nat} {a : Nat} {i v : Int32} {S : gS} (hx : p.tables.exec = Jvm.exec) (hb : c.code = cc) (hE : gE G s s.heap) (hk : rOK Rp) (hH : hp G Rp S H) (eo : o = some a) (e1 : rdAi S a 2 i = some v) (hdg : decode cc pc = .ok (.baload, 1))
    (kk : W p l e R s m args below meth c H locs kc ks Q (F0 m (pc + 1) ls (.int v :: rest))) : W p l e R s m args below meth c H locs kc ks Q (F0 m pc ls (.int i :: va_rf o :: rest)) := by
  subst eo
  obtain ⟨n, f, e2, e3, rfl⟩ := rdAi_o e1
  obtain ⟨x, hx1, hP⟩ := hp_arr hk hH e2
  cases hx1
  exact va_bald hx hb hE.1 hP 0 2 rfl rfl e3 hdg kk
theorem g_sald {o : Option Nat} {a : Nat} {i v : Int32} {S : gS} (hx : p.tables.exec = Jvm.exec) (hb : c.code = cc) (hE : gE G s s.heap) (hk : rOK Rp) (hH : hp G Rp S H) (eo : o = some a) (e1 : rdAi S a 3 i = some v) (hdg : decode cc pc = .ok (.saload, 1))
    (kk : W p l e R s m args below meth c H locs kc ks Q (F0 m (pc + 1) ls (.int v :: rest))) : W p l e R s m args below meth c H locs kc ks Q (F0 m pc ls (.int i :: va_rf o :: rest)) := by
  subst eo
  obtain ⟨n, f, e2, e3, rfl⟩ := rdAi_o e1
  obtain ⟨x, hx1, hP⟩ := hp_arr hk hH e2
  cases hx1
  exact va_sald hx hb hE.1 hP 0 3 rfl rfl e3 hdg kk
theorem g_zald {o : Option Nat} {a : Nat} {i v : Int32} {S : gS} (hx : p.tables.exec = Jvm.exec) (hb : c.code = cc) (hE : gE G s s.heap) (hk : rOK Rp) (hH : hp G Rp S H) (eo : o = some a) (e1 : rdAi S a 4 i = some v) (hdg : decode cc pc = .ok (.baload, 1))
    (kk : W p l e R s m args below meth c H locs kc ks Q (F0 m (pc + 1) ls (.int v :: rest))) : W p l e R s m args below meth c H locs kc ks Q (F0 m pc ls (.int i :: va_rf o :: rest)) := by
  subst eo
  obtain ⟨n, f, e2, e3, rfl⟩ := rdAi_o e1
  obtain ⟨x, hx1, hP⟩ := hp_arr hk hH e2
  cases hx1
  exact va_zald hx hb hE.1 hP 0 4 rfl rfl e3 hdg kk
theorem g_lald {o : Option Nat} {a : Nat} {i : Int32} {v : Int64} {S : gS} (hx : p.tables.exec = Jvm.exec) (hb : c.code = cc) (hE : gE G s s.heap) (hk : rOK Rp) (hH : hp G Rp S H) (eo : o = some a) (e1 : rdAl S a 1 i = some v) (hdg : decode cc pc = .ok (.laload, 1))
    (kk : W p l e R s m args below meth c H locs kc ks Q (F0 m (pc + 1) ls (.long v :: rest))) : W p l e R s m args below meth c H locs kc ks Q (F0 m pc ls (.int i :: va_rf o :: rest)) := by
  subst eo
  obtain ⟨n, f, e2, e3, rfl⟩ := rdAl_o e1
  obtain ⟨x, hx1, hP⟩ := hp_arr hk hH e2
  cases hx1
  exact va_lald hx hb hE.1 hP 0 1 rfl rfl e3 hdg kk
theorem g_aald {o : Option Nat} {a t t0 : Nat} {C : String} {i : Int32} {v : Option Nat} {S : gS} (hx : p.tables.exec = Jvm.exec) (hb : c.code = cc) (hE : gE G s s.heap) (hk : rOK Rp) (hH : hp G Rp S H) (ht : (gTy G.2.1)[t0]? = some (G.2.1 t, .object C)) (eo : o = some a) (e1 : rdAq S a t i = some v) (hdg : decode cc pc = .ok (.aaload, 1))
    (kk : W p l e R s m args below meth c H locs kc ks Q (F0 m (pc + 1) ls (va_rf v :: rest))) : W p l e R s m args below meth c H locs kc ks Q (F0 m pc ls (.int i :: va_rf o :: rest)) := by
  subst eo
  obtain ⟨n, f, e2, e3, rfl⟩ := rdAq_o e1
  obtain ⟨x, hx1, hP⟩ := hp_arr hk hH e2
  cases hx1
  exact va_aldq hx hb hE.1 hP 0 t0 rfl ht e3 hdg kk
theorem W.sz (kk : H.size ≤ s.heap.size + kc → W p l e R s m args below meth c H locs kc ks Q (F0 m pc ls rest)) : W p l e R s m args below meth c H locs kc ks Q (F0 m pc ls rest) := fun T hT X => kk (by have := X.heapSize; rw [hT] at this; exact this) T hT X
theorem g_iast {o : Option Nat} {a : Nat} {i x : Int32} {S S' : gS} (hx : p.tables.exec = Jvm.exec) (hb : c.code = cc) (hE : gE G s s.heap) (hk : rOK Rp) (hH : hp G Rp S H) (hS : va_S G.2.2.2 s.heap H locs) (eo : o = some a) (e1 : wrAi S a i x = some S') (hdg : decode cc pc = .ok (.iastore, 1))
    (kk : ∀ (H1 : Heap) (locs1 : List Loc), hp G Rp S' H1 → va_S G.2.2.2 s.heap H1 locs1 → W p l e R s m args below meth c H1 locs1 kc ks Q (F0 m (pc + 1) ls rest)) : W p l e R s m args below meth c H locs kc ks Q (F0 m pc ls (.int x :: .int i :: va_rf o :: rest)) := by
  subst eo
  obtain ⟨n, f, e2, e3, rfl⟩ := wrAi_o e1
  obtain ⟨ws, j, hP, hD, hi, hback⟩ := hp_ws hk hH e2 rfl
  refine W.iast hx hb (hP j _ hi) ((hE.1.2 0 _ rfl).1 n (fun j => .int (f j))) (fun q => by cases q) (by show ¬ (i < 0 ∨ (arrV _ _ _).slots.size ≤ _); rw [arrV_size]; exact e3) rfl rfl hdg fun H1 y1 z oq => ?_
  refine kk H1 _ (hback _ _ H1 rfl z (hP.set hD hi ?_ oq) (hD.set hi) rfl) (hS.put z oq (hD.2 j _ hi))
  show H1[a]? = some (vp_cell _ _)
  rw [y1, vp_cell_i, vp_cell_i, arrV_store]
  congr 2
  funext q
  by_cases hq : q = i.toNatClampNeg
  · subst hq
    simp [updV, upd]
  · simp [updV, upd, hq]
theorem g_last {o : Option Nat} {a : Nat} {i : Int32} {x : Int64} {S S' : gS} (hx : p.tables.exec = Jvm.exec) (hb : c.code = cc) (hE : gE G s s.heap) (hk : rOK Rp) (hH : hp G Rp S H) (hS : va_S G.2.2.2 s.heap H locs) (eo : o = some a) (e1 : wrAl S a i x = some S') (hdg : decode cc pc = .ok (.lastore, 1))
    (kk : ∀ (H1 : Heap) (locs1 : List Loc), hp G Rp S' H1 → va_S G.2.2.2 s.heap H1 locs1 → W p l e R s m args below meth c H1 locs1 kc ks Q (F0 m (pc + 1) ls rest)) : W p l e R s m args below meth c H locs kc ks Q (F0 m pc ls (.long x :: .int i :: va_rf o :: rest)) := by
  subst eo
  obtain ⟨n, f, e2, e3, rfl⟩ := wrAl_o e1
  obtain ⟨ws, j, hP, hD, hi, hback⟩ := hp_ws hk hH e2 rfl
  refine W.last hx hb (hP j _ hi) ((hE.1.2 1 _ rfl).1 n (fun j => .long (f j))) (fun q => by cases q) (by show ¬ (i < 0 ∨ (arrV _ _ _).slots.size ≤ _); rw [arrV_size]; exact e3) rfl rfl hdg fun H1 y1 z oq => ?_
  refine kk H1 _ (hback _ _ H1 rfl z (hP.set hD hi ?_ oq) (hD.set hi) rfl) (hS.put z oq (hD.2 j _ hi))
  show H1[a]? = some (vp_cell _ _)
  rw [y1, vp_cell_l, vp_cell_l, arrV_store]
  congr 2
  funext q
  by_cases hq : q = i.toNatClampNeg
  · subst hq
    simp [updV, vp_updL]
  · simp [updV, vp_updL, hq]
/-- a store of an object of the array's own component class -/
theorem g_aast {o vo : Option Nat} {a v t t0 ci : Nat} {i : Int32} {q : vw_C} {fs : List Value} {S S' : gS} (hx : p.tables.exec = Jvm.exec) (hb : c.code = cc) (hE : gE G s s.heap) (hk : rOK Rp) (hH : hp G Rp S H) (hS : va_S G.2.2.2 s.heap H locs) (ht : (gTy G.2.1)[t0]? = some (G.2.1 t, .object q.1)) (hc : gCl[ci]? = some q) (eo : o = some a) (ev : vo = some v) (e9 : S.1 v = some (cO ci fs)) (e1 : wrAq S a t i (some v) = some S') (hdg : decode cc pc = .ok (.aastore, 1))
    (kk : ∀ (H1 : Heap) (locs1 : List Loc), hp G Rp S' H1 → va_S G.2.2.2 s.heap H1 locs1 → W p l e R s m args below meth c H1 locs1 kc ks Q (F0 m (pc + 1) ls rest)) : W p l e R s m args below meth c H locs kc ks Q (F0 m pc ls (va_rf vo :: .int i :: va_rf o :: rest)) := by
  subst eo
  subst ev
  obtain ⟨n, f, e2, e3, rfl⟩ := wrAq_o e1
  have hPv := hp_obj hk hH e9
  obtain ⟨ws, j, hP, hD, hi, hback⟩ := hp_ws hk hH e2 rfl
  obtain ⟨r', hr', cellV, g1, g2, g3, -⟩ := hPv 0 _ rfl
  have hcls := (hE.1.1 ci q hc).2
  obtain ⟨kA, comp, k1, k2, k3, -⟩ := (hE.1.2 t0 _ ht).2
  have hcomp : comp = G.1.1 ci := Option.some.inj (k3.symm.trans hcls.1)
  subst hcomp
  obtain ⟨kC, hkC, -⟩ := hcls.2
  have hlt : i.toNatClampNeg < n := Nat.not_le.mp fun z => e3 (Or.inr z)
  have h0 : ¬ i < 0 := fun z => e3 (Or.inl z)
  refine W.aast hx hb (hP j _ hi) (fun q h => by cases h) (fun h => by cases h) k1 k2 rfl hkC ⟨h0, by show _ < (arrV _ _ _).slots.size; rw [arrV_size]; exact hlt⟩ g1 (fun q h => by rw [g3] at h; cases h) (by rw [g2]; exact hkC) (by rw [g2]; exact va_assign hcls) rfl rfl hdg fun H1 y1 z oq => ?_
  refine kk H1 _ (hback _ _ H1 rfl z (hP.set hD hi ?_ oq) (hD.set hi) rfl) (hS.put z oq (hD.2 j _ hi))
  show H1[a]? = some (vp_cell _ _)
  rw [y1, vp_cell_q, vp_cell_q, arrV_store]
  congr 2
  funext w
  by_cases hq : w = i.toNatClampNeg
  · subst hq
    simp [updV, va_up, va_rf]
  · simp [updV, va_up, hq]
theorem g_irem {x y v : Int32} (hx : p.tables.exec = Jvm.exec) (hb : c.code = cc) (hdg : decode cc pc = .ok (.irem, 1)) (e1 : grem x y = some v)
    (kk : W p l e R s m args below meth c H locs kc ks Q (F0 m (pc + 1) ls (.int v :: rest))) : W p l e R s m args below meth c H locs kc ks Q (F0 m pc ls (.int y :: .int x :: rest)) := by
  obtain ⟨h1, rfl⟩ := grem_o e1
  exact lv_irem hx hb hdg h1 kk
-- locals and branches of references that may be null
theorem g_aload_n {k : Fin 4} {i : Nat} {o : Option Nat} (hx : p.tables.exec = Jvm.exec) (hb : c.code = cc) (hdg : decode cc pc = .ok (.aload_n k, 1)) (hi : (k : Nat) = i) (hl : ls[i]? = some (.val (va_rf o)))
    (kk : W p l e R s m args below meth c H locs kc ks Q (F0 m (pc + 1) ls (va_rf o :: rest))) : W p l e R s m args below meth c H locs kc ks Q (F0 m pc ls rest) := by
  cases o with
  | none => exact lv_aload_nN hx hb hdg hi hl kk
  | some x => exact lv_aload_n hx hb hdg hi hl kk
theorem g_aload {i : Nat} {o : Option Nat} (hx : p.tables.exec = Jvm.exec) (hb : c.code = cc) (hdg : decode cc pc = .ok (.aload i, 2)) (hl : ls[i]? = some (.val (va_rf o)))
    (kk : W p l e R s m args below meth c H locs kc ks Q (F0 m (pc + 2) ls (va_rf o :: rest))) : W p l e R s m args below meth c H locs kc ks Q (F0 m pc ls rest) := by
  cases o with
  | none => exact lv_aloadN hx hb hdg hl kk
  | some x => exact lv_aload hx hb hdg hl kk
theorem g_astore_n {k : Fin 4} {i nL : Nat} {o : Option Nat} {lv lv' : List (Nat × Value)} (hx : p.tables.exec = Jvm.exec) (hb : c.code = cc) (hdg : decode cc pc = .ok (.astore_n k, 1)) (hi : (k : Nat) = i) (h : lv_has ls nL lv) (hn : i < nL) (hl : (i, va_rf o) :: lv.filter (fun q => !(q.1 == i) && !(q.1 + 1 == i && q.2.category == 2)) = lv')
    (kk : ∀ ls' : Array Slot, lv_has ls' nL lv' → W p l e R s m args below meth c H locs kc ks Q (F0 m (pc + 1) ls' rest)) : W p l e R s m args below meth c H locs kc ks Q (F0 m pc ls (va_rf o :: rest)) := by
  cases o with
  | none => exact lv_astore_nN hx hb hdg hi h hn hl kk
  | some x => exact lv_astore_n hx hb hdg hi h hn hl kk
theorem g_astore {i nL : Nat} {o : Option Nat} {lv lv' : List (Nat × Value)} (hx : p.tables.exec = Jvm.exec) (hb : c.code = cc) (hdg : decode cc pc = .ok (.astore i, 2)) (h : lv_has ls nL lv) (hn : i < nL) (hl : (i, va_rf o) :: lv.filter (fun q => !(q.1 == i) && !(q.1 + 1 == i && q.2.category == 2)) = lv')
    (kk : ∀ ls' : Array Slot, lv_has ls' nL lv' → W p l e R s m args below meth c H locs kc ks Q (F0 m (pc + 2) ls' rest)) : W p l e R s m args below meth c H locs kc ks Q (F0 m pc ls (va_rf o :: rest)) := by
  cases o with
  | none => exact lv_astoreN hx hb hdg h hn hl kk
  | some x => exact lv_astore hx hb hdg h hn hl kk
theorem g_ifnull {o : Option Nat} {off : Int} {tgt : Nat} (hx : p.tables.exec = Jvm.exec) (hb : c.code = cc) (hdg : decode cc pc = .ok (.ifnull off, 3)) (ht : (pc : Int) + off = (tgt : Int))
    (kt : o = none → W p l e R s m args below meth c H locs kc ks Q (F0 m tgt ls rest)) (kf : ¬ o = none → W p l e R s m args below meth c H locs kc ks Q (F0 m (pc + 3) ls rest)) : W p l e R s m args below meth c H locs kc ks Q (F0 m pc ls (va_rf o :: rest)) := by
  cases o with
  | none => exact lv_ifnullN hx hb hdg ht (kt rfl)
  | some x => exact lv_ifnull hx hb hdg (kf (fun h => by cases h))
theorem g_ifnonnull {o : Option Nat} {off : Int} {tgt : Nat} (hx : p.tables.exec = Jvm.exec) (hb : c.code = cc) (hdg : decode cc pc = .ok (.ifnonnull off, 3)) (ht : (pc : Int) + off = (tgt : Int))
    (kt : ¬ o = none → W p l e R s m args below meth c H locs kc ks Q (F0 m tgt ls rest)) (kf : o = none → W p l e R s m args below meth c H locs kc ks Q (F0 m (pc + 3) ls rest)) : W p l e R s m args below meth c H locs kc ks Q (F0 m pc ls (va_rf o :: rest)) := by
  cases o with
  | none => exact lv_ifnonnullN hx hb hdg (kf rfl)
  | some x => exact lv_ifnonnull hx hb hdg ht (kt (fun h => by cases h))
-- ends
theorem g_end {S : gS} (hH : hp G Rp S H) (hS : va_S G.2.2.2 s.heap H locs) (v : Option Value) : ∀ t : State, t.heap = H → gQc G Rp v S args s (.returned v) t := fun t ht => ⟨rfl, by rw [ht]; exact hH, hS.F ht⟩
theorem g_iret {S Sf : gS} {v r : Int32} {C N mc ms : Nat} (hx : p.tables.exec = Jvm.exec) (hb : c.code = cc) (hr : meth.sig.returnType = some .int) (hlk : meth.locks = false) (hH : hp G Rp S H) (hS : va_S G.2.2.2 s.heap H locs) (hkc : kc + C ≤ mc) (hks : ks + N ≤ ms) (hf : some (v, S, 0, 0) = some (r, Sf, C, N)) (hdg : decode cc pc = .ok (.ireturn, 1)) : W p l e R s m args below meth c H locs kc ks (gQ below G Rp (some (.int r)) Sf args s mc ms) (F0 m pc ls [.int v]) := by
  cases hf
  refine W.widen (k := mc) (n := ms) (by omega) (by omega) ?_
  exact W.iret (v := v) hx hb hr (fun t ht _ => g_end hH hS _ t ht) hS.2.2 hdg hlk
theorem g_zret {S Sf : gS} {v r : Int32} {C N mc ms : Nat} (hx : p.tables.exec = Jvm.exec) (hb : c.code = cc) (hr : meth.sig.returnType = some .boolean) (hlk : meth.locks = false) (hH : hp G Rp S H) (hS : va_S G.2.2.2 s.heap H locs) (hkc : kc + C ≤ mc) (hks : ks + N ≤ ms) (hf : zg v S = some (r, Sf, C, N)) (hdg : decode cc pc = .ok (.ireturn, 1)) : W p l e R s m args below meth c H locs kc ks (gQ below G Rp (some (.int r)) Sf args s mc ms) (F0 m pc ls [.int v]) := by
  obtain ⟨hz, rfl, rfl, rfl, rfl⟩ := zg_o hf
  refine W.widen (k := mc) (n := ms) (by omega) (by omega) ?_
  exact W.zret (v := v) (ty := .boolean) hx hb hr (by rcases hz with rfl | rfl <;> rfl) (fun t ht _ => g_end hH hS _ t ht) hS.2.2 hdg hlk
theorem g_lret {S Sf : gS} {v r : Int64} {C N mc ms : Nat} (hx : p.tables.exec = Jvm.exec) (hb : c.code = cc) (hr : meth.sig.returnType = some .long) (hlk : meth.locks = false) (hH : hp G Rp S H) (hS : va_S G.2.2.2 s.heap H locs) (hkc : kc + C ≤ mc) (hks : ks + N ≤ ms) (hf : some (v, S, 0, 0) = some (r, Sf, C, N)) (hdg : decode cc pc = .ok (.lreturn, 1)) : W p l e R s m args below meth c H locs kc ks (gQ below G Rp (some (.long r)) Sf args s mc ms) (F0 m pc ls [.long v]) := by
  cases hf
  refine W.widen (k := mc) (n := ms) (by omega) (by omega) ?_
  exact W.lret (v := v) hx hb hr (fun t ht _ => g_end hH hS _ t ht) hS.2.2 hdg hlk
theorem g_aret {S Sf : gS} {v r : Option Nat} {C N mc ms : Nat} {rt : FieldType} (hx : p.tables.exec = Jvm.exec) (hb : c.code = cc) (hr : meth.sig.returnType = some rt) (hrt : (∃ n, rt = .object n) ∨ ∃ t, rt = .array t) (hlk : meth.locks = false) (hH : hp G Rp S H) (hS : va_S G.2.2.2 s.heap H locs) (hkc : kc + C ≤ mc) (hks : ks + N ≤ ms) (hf : some (v, S, 0, 0) = some (r, Sf, C, N)) (hdg : decode cc pc = .ok (.areturn, 1)) : W p l e R s m args below meth c H locs kc ks (gQ below G Rp (some (va_rf r)) Sf args s mc ms) (F0 m pc ls [va_rf v]) := by
  cases hf
  refine W.widen (k := mc) (n := ms) (by omega) (by omega) ?_
  exact W.aret (v := va_rf v) hx hb hr hrt (by cases v with
    | none => exact Or.inl rfl
    | some a => exact Or.inr ⟨a, rfl⟩) (fun t ht _ => g_end hH hS _ t ht) hS.2.2 hdg hlk
theorem g_vret {S Sf : gS} {r : Unit} {C N mc ms : Nat} (hx : p.tables.exec = Jvm.exec) (hb : c.code = cc) (hr : meth.sig.returnType = none) (hlk : meth.locks = false) (hH : hp G Rp S H) (hS : va_S G.2.2.2 s.heap H locs) (hkc : kc + C ≤ mc) (hks : ks + N ≤ ms) (hf : some ((), S, 0, 0) = some (r, Sf, C, N)) (hdg : decode cc pc = .ok (.return_, 1)) : W p l e R s m args below meth c H locs kc ks (gQ below G Rp none Sf args s mc ms) (F0 m pc ls []) := by
  cases hf
  refine W.widen (k := mc) (n := ms) (by omega) (by omega) ?_
  exact W.vret hx hb hr (fun t ht _ => g_end hH hS _ t ht) hS.2.2 hdg hlk
-- calls
theorem g_call {S2 : gS} {v : Option Value} {st0 st1 : List Value} {a : Array Value} {C N : Nat} (hrun : va_Run p l e R s m args below meth c H locs kc ks C N (F0 m pc ls st0) rest (gQc G Rp v S2 a) G.2.2.2) (hS : va_S G.2.2.2 s.heap H locs) (hst : v.toList ++ rest = st1)
    (kk : ∀ (H1 : Heap) (locs1 : List Loc), hp G Rp S2 H1 → va_S G.2.2.2 s.heap H1 locs1 → W p l e R s m args below meth c H1 locs1 (kc + C) (ks + N) Q (F0 m (pc + 3) ls st1)) : W p l e R s m args below meth c H locs kc ks Q (F0 m pc ls st0) := by
  intro T hT X
  obtain ⟨v', st₀, t, T', L, h0, X', hL, e1, e2, ⟨hv, hH1, hz2, hk⟩, st⟩ := hrun T hT X
  cases hv
  subst hst
  rw [h0] at hz2 hk
  obtain ⟨t2, a1, b1⟩ := kk T'.heap (locs ++ L) (by rw [e1]; exact hH1) ⟨Nat.le_trans hS.1 (by rw [e1]; exact hz2), fun q h1 h2 => by rw [e1, hk q (Nat.lt_of_lt_of_le h1 hS.1) h2]; exact hS.2.1 q h1 h2, fun q hq => by
      rcases List.mem_append.mp hq with h | h
      · exact hS.2.2 q h
      · exact hL q h⟩ T' rfl X'
  exact ⟨t2, st t2 a1, b1⟩
theorem g_call5 {S2 : gS} {v : Option Value} {st0 st1 : List Value} {a : Array Value} {C N : Nat} (hrun : va_Run5 p l e R s m args below meth c H locs kc ks C N (F0 m pc ls st0) rest (gQc G Rp v S2 a) G.2.2.2) (hS : va_S G.2.2.2 s.heap H locs) (hst : v.toList ++ rest = st1)
    (kk : ∀ (H1 : Heap) (locs1 : List Loc), hp G Rp S2 H1 → va_S G.2.2.2 s.heap H1 locs1 → W p l e R s m args below meth c H1 locs1 (kc + C) (ks + N) Q (F0 m (pc + 5) ls st1)) : W p l e R s m args below meth c H locs kc ks Q (F0 m pc ls st0) := by
  intro T hT X
  obtain ⟨v', st₀, t, T', L, h0, X', hL, e1, e2, ⟨hv, hH1, hz2, hk⟩, st⟩ := hrun T hT X
  cases hv
  subst hst
  rw [h0] at hz2 hk
  obtain ⟨t2, a1, b1⟩ := kk T'.heap (locs ++ L) (by rw [e1]; exact hH1) ⟨Nat.le_trans hS.1 (by rw [e1]; exact hz2), fun q h1 h2 => by rw [e1, hk q (Nat.lt_of_lt_of_le h1 hS.1) h2]; exact hS.2.1 q h1 h2, fun q hq => by
      rcases List.mem_append.mp hq with h | h
      · exact hS.2.2 q h
      · exact hL q h⟩ T' rfl X'
  exact ⟨t2, st t2 a1, b1⟩
/-- what a callee finds -/
theorem g_pre {S : gS} {av : List Value} (hE : gE G s s.heap) (hA : ∀ q : Nat, s.heap.size ≤ q → G.2.2.2 q) (hH : hp G Rp S H) (hS : va_S G.2.2.2 s.heap H locs) : ∀ U : State, U.heap = H → s.WarmedH U.vm → gPc G Rp av S av.toArray U := fun U hU hW => ⟨rfl, by rw [hU]; exact hH, by rw [hU]; exact gE.to hW.alike hW (fun a h1 h2 => hS.2.1 a h1 h2) hE, fun q hq => hA q (by rw [hU] at hq; exact Nat.le_trans hS.1 hq)⟩
theorem g_callV {y : MethodName} {own nm : String} {bytes : ByteArray} {maxL nL fr lo fr' lo' n index C N mc ms b : Nat} {o : Option Nat} {ret ret' : Option FieldType} {As st0 st1 : List Value} {v : Option Value} {S S2 : gS} (hc : gC p s m args meth c G own nm cc nL ret') (hM : gMet l y bytes maxL ret fr' lo' G Rp (.ref b :: As) S v S2 C N) (cw : CallW (gR fr lo mc ms) s args own y.cls index y bytes maxL ret (ws_ y bytes maxL ret) (gR fr' lo' C N) C N n) (hrc : ∃ cell : Cell, H[b]? = some cell ∧ cell.vm.isStatics = false ∧ s.vm.findClass y.cls = some cell.cls) (eo : o = some b) (hn : As.length = n) (hsize : ls.size = nL) (hst0 : st0 = As.reverse ++ va_rf o :: rest) (hst : v.toList ++ rest = st1) (hW : 2 * (F0 m pc ls st0).monitorRoom + (rest.map fun v => v.category).sum ≤ 8) (hdg : decode cc pc = .ok (.invokevirtual index, 3)) (hH : hp G Rp S H) (hS : va_S G.2.2.2 s.heap H locs) (hkc : kc + C ≤ mc) (hks : ks + N ≤ ms)
    (kk : ∀ (H1 : Heap) (locs1 : List Loc), hp G Rp S2 H1 → va_S G.2.2.2 s.heap H1 locs1 → W p l e (gR fr lo mc ms) s m args below meth c H1 locs1 (kc + C) (ks + N) Q (F0 m (pc + 3) ls st1)) : W p l e (gR fr lo mc ms) s m args below meth c H locs kc ks Q (F0 m pc ls st0) := by
  subst eo
  obtain ⟨hx, hb, hr, hlk, hml, hown, hts, hE, hA, hnm⟩ := hc
  exact g_call (va_runV (As := As) (rest := rest) ⟨hx, hb, hml, hown, hts⟩ hM cw ⟨g_blind, hrc, g_pre hE hA hH hS⟩ rfl hn hsize hst0 hW hdg ⟨hkc, hks⟩) hS hst kk
theorem g_callS {y : MethodName} {own nm : String} {bytes : ByteArray} {maxL nL fr lo fr' lo' n index C N mc ms : Nat} {ret ret' : Option FieldType} {As st0 st1 : List Value} {v : Option Value} {S S2 : gS} (hc : gC p s m args meth c G own nm cc nL ret') (hM : gMet l y bytes maxL ret fr' lo' G Rp As S v S2 C N) (cw : CallB (gR fr lo mc ms) s args own index y bytes maxL ret (ws_ y bytes maxL ret) (gR fr' lo' C N) C N n ∧ (Cond.static y).before args s = true) (hn : As.length = n) (hsize : ls.size = nL) (hst0 : st0 = As.reverse ++ rest) (hst : v.toList ++ rest = st1) (hW : 2 * (F0 m pc ls st0).monitorRoom + (rest.map fun v => v.category).sum ≤ 8) (hdg : decode cc pc = .ok (.invokestatic index, 3)) (hH : hp G Rp S H) (hS : va_S G.2.2.2 s.heap H locs) (hkc : kc + C ≤ mc) (hks : ks + N ≤ ms)
    (kk : ∀ (H1 : Heap) (locs1 : List Loc), hp G Rp S2 H1 → va_S G.2.2.2 s.heap H1 locs1 → W p l e (gR fr lo mc ms) s m args below meth c H1 locs1 (kc + C) (ks + N) Q (F0 m (pc + 3) ls st1)) : W p l e (gR fr lo mc ms) s m args below meth c H locs kc ks Q (F0 m pc ls st0) := by
  obtain ⟨hx, hb, hr, hlk, hml, hown, hts, hE, hA, hnm⟩ := hc
  exact g_call (va_runS (As := As) (rest := rest) ⟨hx, hb, hml, hown, hts⟩ hM cw ⟨g_blind, g_pre hE hA hH hS⟩ rfl hn hsize hst0 hW hdg ⟨hkc, hks⟩) hS hst kk
theorem g_callI {y : MethodName} {own nm : String} {bytes : ByteArray} {maxL nL fr lo fr' lo' n index C N mc ms b : Nat} {o : Option Nat} {ret' : Option FieldType} {As st0 : List Value} {S S2 : gS} (hc : gC p s m args meth c G own nm cc nL ret') (hM : gMet l y bytes maxL none fr' lo' G Rp (.ref b :: As) S none S2 C N) (cw : CallB (gR fr lo mc ms) s args own index y bytes maxL none (ws_ y bytes maxL none) (gR fr' lo' C N) C N n ∧ y.name = "<init>" ∧ (Cond.instanceMethod y).before args s = true) (eo : o = some b) (hn : As.length = n) (hsize : ls.size = nL) (hst0 : st0 = As.reverse ++ va_rf o :: rest) (hW : 2 * (F0 m pc ls st0).monitorRoom + (rest.map fun v => v.category).sum ≤ 8) (hdg : decode cc pc = .ok (.invokespecial index, 3)) (hH : hp G Rp S H) (hS : va_S G.2.2.2 s.heap H locs) (hkc : kc + C ≤ mc) (hks : ks + N ≤ ms)
    (kk : ∀ (H1 : Heap) (locs1 : List Loc), hp G Rp S2 H1 → va_S G.2.2.2 s.heap H1 locs1 → W p l e (gR fr lo mc ms) s m args below meth c H1 locs1 (kc + C) (ks + N) Q (F0 m (pc + 3) ls rest)) : W p l e (gR fr lo mc ms) s m args below meth c H locs kc ks Q (F0 m pc ls st0) := by
  subst eo
  obtain ⟨hx, hb, hr, hlk, hml, hown, hts, hE, hA, hnm⟩ := hc
  exact g_call (va_runI (As := As) (rest := rest) ⟨hx, hb, hml, hown, hts⟩ hM cw ⟨g_blind, g_pre hE hA hH hS⟩ rfl hn hsize hst0 hW hdg ⟨hkc, hks⟩) hS rfl kk
theorem g_recv {S : gS} {b ci : Nat} {q : vw_C} {fs : List Value} (hE : gE G s s.heap) (hk : rOK Rp) (hH : hp G Rp S H) (hc : gCl[ci]? = some q) (e1 : S.1 b = some (cO ci fs)) : ∃ cell : Cell, H[b]? = some cell ∧ cell.vm.isStatics = false ∧ s.vm.findClass q.1 = some cell.cls := va_recv hE.1 (hp_obj hk hH e1) hc (q0 := 0) rfl
theorem clsO_o {S : gS} {a ci : Nat} (h : clsO S a = some ci) : ∃ fs, S.1 a = some (cO ci fs) := by
  unfold clsO at h
  split at h
  next q hq => cases h; exact ⟨q.2, hq⟩
  next => cases h
end
