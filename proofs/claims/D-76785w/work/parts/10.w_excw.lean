/-! EXCEPTIONS at the heap state: contracts that may throw (their lifted functions answer alpha or (class, the thrown object if its address is known)) -/
set_option maxRecDepth 100000
set_option maxHeartbeats 4000000
/-- what is thrown: the class, the object; none: the machine made it, with a number of cells that isn't known -/
abbrev gTh : Type := String × Option Nat
abbrev gX (α : Type) : Type := gO (α ⊕ gTh)
def hpx (G : gG) (Rp : gM → gM → Nat → Prop) (S2 : gS) (x : Option Nat) (q : Nat) (H : Heap) : Prop := match x with
  | some a => q = a ∧ hp G Rp S2 H
  | none => ∃ n, S2.2 ≤ n ∧ hp G Rp (S2.1, n) H
def oky {ρ : Type} (C N : Nat) (o : gO ρ) (P : ρ → gS → Prop) : Prop := ∃ r S c n, o = some (r, S, c, n) ∧ c ≤ C ∧ n ≤ N ∧ P r S
theorem oky_mono {ρ : Type} {C N : Nat} {o : gO ρ} {P Q : ρ → gS → Prop} (h : oky C N o P) (k : ∀ r S, P r S → Q r S) : oky C N o Q := by
  obtain ⟨r, S, c, n, h1, h2, h3, h4⟩ := h
  exact ⟨r, S, c, n, h1, h2, h3, k _ _ h4⟩
theorem bdJ {α ρ : Type} {C N : Nat} {o : Option α} {k : Nat → α → gO ρ} {P : ρ → gS → Prop} (h : ∀ j, oky C N (bd o (k j)) P) : ∃ a, o = some a ∧ ∀ j, oky C N (k j a) P := by
  cases o with
  | none =>
    obtain ⟨r, S, c, n, h1, -⟩ := h 0
    cases h1
  | some a => exact ⟨a, rfl, h⟩
theorem gbJ {α ρ : Type} {C N : Nat} {o : gO α} {k : Nat → α → gS → gO ρ} {P : ρ → gS → Prop} (h : ∀ j, oky C N (gb o (k j)) P) : ∃ a S c n c2 n2, o = some (a, S, c, n) ∧ (∀ j, oky c2 n2 (k j a S) P) ∧ C = c + c2 ∧ N = n + n2 := by
  cases o with
  | none =>
    obtain ⟨r, S, c, n, h1, -⟩ := h 0
    cases h1
  | some q =>
    obtain ⟨a, S, c, n⟩ := q
    have key : ∀ j, c ≤ C ∧ n ≤ N ∧ oky (C - c) (N - n) (k j a S) P := fun j => by
      obtain ⟨r, S1, c1, n1, h1, h2, h3, h4⟩ := h j
      obtain ⟨a', S', c', n', c2, n2, e1, e2, e3, e4⟩ := gbo h1
      cases e1
      exact ⟨by omega, by omega, r, S1, c2, n2, e2, by omega, by omega, h4⟩
    exact ⟨a, S, c, n, C - c, N - n, rfl, fun j => (key j).2.2, by have := (key 0).1; omega, by have := (key 0).2.1; omega⟩
theorem adJ {ρ : Type} {C N c n : Nat} {k : Nat → gO ρ} {P : ρ → gS → Prop} (h : ∀ j, oky C N (ad c n (k j)) P) : ∃ c2 n2, (∀ j, oky c2 n2 (k j) P) ∧ C = c + c2 ∧ N = n + n2 := by
  have key : ∀ j, c ≤ C ∧ n ≤ N ∧ oky (C - c) (N - n) (k j) P := fun j => by
    obtain ⟨r, S1, c1, n1, h1, h2, h3, h4⟩ := h j
    obtain ⟨c2, n2, e2, e3, e4⟩ := ado h1
    exact ⟨by omega, by omega, r, S1, c2, n2, e2, by omega, by omega, h4⟩
  exact ⟨C - c, N - n, fun j => (key j).2.2, by have := (key 0).1; omega, by have := (key 0).2.1; omega⟩
theorem nwJ {ρ : Type} {C N n : Nat} {S : gS} {c : Cel} {k : Nat → gS → gO ρ} {P : ρ → gS → Prop} (h : ∀ j, oky C N (nw S c n (k j)) P) : ∃ S1 c2 n2, S1 = mk S c ∧ (∀ j, oky c2 n2 (k j S1) P) ∧ C = 1 + c2 ∧ N = n + n2 := by
  obtain ⟨c2, n2, h1, h2, h3⟩ := adJ (k := fun j => k j (mk S c)) h
  exact ⟨_, c2, n2, rfl, h1, h2, h3⟩
theorem nwaJ {ρ : Type} {C N t : Nat} {S : gS} {i : Int32} {k : Nat → gS → gO ρ} {P : ρ → gS → Prop} (h : ∀ j, oky C N (nwa S t i (k j)) P) : ¬ i < 0 ∧ i.toNatClampNeg ≤ 100000 ∧ ∃ S1 c2 n2, S1 = mk S (if t = 1 then cAl 1 i.toNatClampNeg (fun _ => 0) else cAi t i.toNatClampNeg (fun _ => 0)) ∧ (∀ j, oky c2 n2 (k j S1) P) ∧ C = 1 + c2 ∧ N = i.toNatClampNeg + n2 := by
  by_cases q : i < 0 ∨ 100000 < i.toNatClampNeg
  · obtain ⟨r, S1, c, n, h1, -⟩ := h 0
    rw [nwa, if_pos q] at h1
    cases h1
  · simp only [nwa, if_neg q] at h
    exact ⟨fun z => q (Or.inl z), Nat.not_lt.mp fun z => q (Or.inr z), nwJ h⟩
theorem noJ {ρ : Type} {C N : Nat} {P : ρ → gS → Prop} {A : Prop} (h : ∀ _ : Nat, oky C N (none : gO ρ) P) : A := by
  obtain ⟨r, S, c, n, h1, -⟩ := h 0
  cases h1
/-- a call of a function that takes the oracle too: its costs are bounded ahead -/
def gbc {α β : Type} (C1 N1 : Nat) (o : gO α) (k : α → gS → gO β) : gO β := match o with
  | some q => if q.2.2.1 ≤ C1 ∧ q.2.2.2 ≤ N1 then ad C1 N1 (k q.1 q.2.1) else none
  | none => none
theorem gbcJ {α ρ : Type} {C N C1 N1 : Nat} {o : Nat → gO α} {k : Nat → α → gS → gO ρ} {P : ρ → gS → Prop} (h : ∀ j, oky C N (gbc C1 N1 (o j) (k j)) P) : ∃ c2 n2, (∀ j, oky C1 N1 (o j) (fun a S => ∃ j, oky c2 n2 (k j a S) P)) ∧ C = C1 + c2 ∧ N = N1 + n2 := by
  have key : ∀ j, C1 ≤ C ∧ N1 ≤ N ∧ oky C1 N1 (o j) (fun a S => ∃ j, oky (C - C1) (N - N1) (k j a S) P) := fun j => by
    obtain ⟨r, S1, c1, n1, h1, h2, h3, h4⟩ := h j
    cases ho : o j with
    | none => rw [ho] at h1; cases h1
    | some q =>
      obtain ⟨a, S, c, n⟩ := q
      rw [ho] at h1
      simp only [gbc] at h1
      split at h1
      next hq =>
        obtain ⟨c2, n2, e2, e3, e4⟩ := ado h1
        exact ⟨by omega, by omega, a, S, c, n, rfl, hq.1, hq.2, j, r, S1, c2, n2, e2, by omega, by omega, h4⟩
      next => cases h1
  exact ⟨C - C1, N - N1, fun j => (key j).2.2, by have := (key 0).1; omega, by have := (key 0).2.1; omega⟩
/-- behind a throw of the machine's: the next address is n -/
theorem swJ {ρ : Type} {C N : Nat} {S : gS} {n : Nat} {k : gS → gO ρ} {P : ρ → gS → Prop} (h : S.2 ≤ n) (hf : ∀ j : Nat, oky C N (bd (some ((S.1, S.2 + j) : gS)) k) P) : ∀ _ : Nat, oky C N (k (S.1, n)) P := fun _ => by
  have h1 := hf (n - S.2)
  rw [show S.2 + (n - S.2) = n by omega] at h1
  exact h1
def gJq {α : Type} (G : gG) (Rp : gM → gM → Nat → Prop) (ι : α → Option Value) (P : α ⊕ gTh → gS → Prop) : Array Value → State → Outcome → State → Prop := fun a st o t => ∃ v S2, P (.inl v) S2 ∧ gQc G Rp (ι v) S2 a st o t
def gJc {α : Type} (G : gG) (Rp : gM → gM → Nat → Prop) (P : α ⊕ gTh → gS → Prop) : String → Nat → State → State → Prop := fun E q st t => ∃ (x : gTh) (S2 : gS), P (.inr x) S2 ∧ E = x.1 ∧ hpx G Rp S2 x.2 q t.heap ∧ va_F G.2.2.2 st t
/-- the contract of a method that may throw: its answer (or what it throws) and its last state have P -/
def gMetJ {α : Type} (l : Launch) (y : MethodName) (ws : List Cond) (fr lo : Nat) (G : gG) (Rp : gM → gM → Nat → Prop) (av : List Value) (S : gS) (ι : α → Option Value) (P : α ⊕ gTh → gS → Prop) (C N : Nat) : Prop :=
  vx_Met l y ws (gR fr lo C N) (gPc G Rp av S) (gJq G Rp ι P) (gJc G Rp P) C N G.2.2.2
abbrev gQJ {α : Type} (below : List Frame) (G : gG) (Rp : gM → gM → Nat → Prop) (ι : α → Option Value) (P : α ⊕ gTh → gS → Prop) (args : Array Value) (s : State) (mc ms : Nat) : State → Prop := vx_MQ below (gJq G Rp ι P) (gJc G Rp P) args s mc ms G.2.2.2
abbrev iI : Int32 → Option Value := fun v => some (.int v)
abbrev iJ : Int64 → Option Value := fun v => some (.long v)
abbrev iR : Option Nat → Option Value := fun v => some (va_rf v)
abbrev iV : Unit → Option Value := fun _ => none
section EXW
variable {p : Program} {l : Launch} {e : Env} {s : State} {m : MethodId} {args : Array Value} {below : List Frame} {meth : Method} {c : Code} {G : gG} {Rp : gM → gM → Nat → Prop} {R : Room} {H : Heap} {locs : List Loc} {Q : State → Prop} {cc : ByteArray} {ls : Array Slot} {rest : List Value} {pc : Nat} {kc ks : Nat}
theorem hp_later {G : gG} (hk : rOK Rp) {S : gS} {H1 : Heap} (h : hp G Rp S H) (hz : H.size ≤ H1.size) (hq : ∀ q : Nat, q < H.size → H1[q]? = H[q]?) : S.2 ≤ H1.size ∧ hp G Rp (S.1, H1.size) H1 := by
  obtain ⟨M, ⟨ws, hP, hD, hw⟩, he, hr⟩ := h
  refine ⟨by omega, M, ⟨ws, hP.kept fun k q hkq => hq q.1 (vx_lt hP hkq), hD, hw⟩, rfl, hk.2.2.2.2 _ _ _ _ hr (by omega)⟩
theorem g_startJ {α : Type} {y : MethodName} {maxL fr lo C N : Nat} {ret : Option FieldType} {av : List Value} {S : gS} {ι : α → Option Value} {P : α ⊕ gTh → gS → Prop} (hy : plainName y.cls = true) (hn : (lg_sl av).length ≤ maxL)
    (body : ∀ (p : Program) (e : Env) (s : State) (m : MethodId) (args : Array Value) (below : List Frame) (meth : Method) (c : Code) (ls : Array Slot), gC p s m args meth c G y.cls y.name cc maxL ret → c.exceptionTable.toList = [] → lv_has ls maxL (lv_args 0 av) → hp G Rp S s.heap → W p l e (gR fr lo C N) s m args below meth c s.heap [] 0 0 (gQJ below G Rp ι P args s C N) (F0 m 0 ls [])) :
    gMetJ l y (ws_ y cc maxL ret) fr lo G Rp av S ι P C N := by
  refine vx_ofW (cc := cc) (maxL := maxL) (ret := ret) hy rfl ?_
  intro p e s m args below meth c s₁ B hml htb hv
  obtain ⟨hav, hH, hE, hA⟩ := hv
  have hts := atoms_spec (ws := ws_ y cc maxL ret) B.pre
  have hts : ∀ w ∈ lw_all, w.before args s = true := fun w h => hts w (List.mem_cons_of_mem _ h)
  have hown : s.vm.findClass y.cls = some m.cls := findClass_of_methodNamed B.named
  have hin : meth.name = y.name := (name_of_methodNamed B.named B.method).1
  have hl := lv_entry av (n := maxL) hn
  rw [hav, lg_entry_eq]
  rw [← hav]
  exact body p e s m args below meth c _ ⟨B.exec, B.bytes, B.returns, B.notSynchronized, hml, hown, hts, hE, hA, hin⟩ (List.eq_nil_iff_forall_not_mem.mpr fun x hx => htb x hx) hl hH
theorem g_startJW {α : Type} {y : MethodName} {maxL fr lo C N : Nat} {ret : Option FieldType} {hh : List (Nat × Nat × Nat × Nat)} {av : List Value} {S : gS} {ι : α → Option Value} {P : α ⊕ gTh → gS → Prop} (hy : plainName y.cls = true) (hn : (lg_sl av).length ≤ maxL)
    (body : ∀ (p : Program) (e : Env) (s : State) (m : MethodId) (args : Array Value) (below : List Frame) (meth : Method) (c : Code) (ls : Array Slot), gC p s m args meth c G y.cls y.name cc maxL ret → c.exceptionTable.toList = tableOf hh → lv_has ls maxL (lv_args 0 av) → hp G Rp S s.heap → W p l e (gR fr lo C N) s m args below meth c s.heap [] 0 0 (gQJ below G Rp ι P args s C N) (F0 m 0 ls [])) :
    gMetJ l y (wsW_ y cc maxL ret hh) fr lo G Rp av S ι P C N := by
  refine vx_ofWH (cc := cc) (maxL := maxL) (ret := ret) (hh := hh) hy rfl ?_
  intro p e s m args below meth c s₁ B hml hv
  obtain ⟨hav, hH, hE, hA⟩ := hv
  have hts0 := atoms_spec (ws := wsW_ y cc maxL ret hh) B.pre
  have hts : ∀ w ∈ lw_all, w.before args s = true := fun w h => hts0 w (List.mem_cons_of_mem _ h)
  have htb := vx_table (x := y) B (hts0 _ List.mem_cons_self)
  have hown : s.vm.findClass y.cls = some m.cls := findClass_of_methodNamed B.named
  have hin : meth.name = y.name := (name_of_methodNamed B.named B.method).1
  have hl := lv_entry av (n := maxL) hn
  rw [hav, lg_entry_eq]
  rw [← hav]
  exact body p e s m args below meth c _ ⟨B.exec, B.bytes, B.returns, B.notSynchronized, hml, hown, hts, hE, hA, hin⟩ htb hl hH
-- ends
theorem g_iretJ {S : gS} {v : Int32} {C N mc ms : Nat} {P : Int32 ⊕ gTh → gS → Prop} (hx : p.tables.exec = Jvm.exec) (hb : c.code = cc) (hr : meth.sig.returnType = some .int) (hlk : meth.locks = false) (hH : hp G Rp S H) (hS : va_S G.2.2.2 s.heap H locs) (hkc : kc + C ≤ mc) (hks : ks + N ≤ ms) (hf : ∀ _ : Nat, oky C N (some (.inl v, S, 0, 0)) P) (hdg : decode cc pc = .ok (.ireturn, 1)) : W p l e R s m args below meth c H locs kc ks (gQJ below G Rp iI P args s mc ms) (F0 m pc ls [.int v]) := by
  obtain ⟨_, _, _, _, h1, -, -, h4⟩ := hf 0
  cases h1
  refine W.widen (k := mc) (n := ms) (by omega) (by omega) ?_
  exact vx_ret (W.iret (v := v) hx hb hr (fun t ht _ => ⟨v, S, h4, g_end hH hS _ t ht⟩) hS.2.2 hdg hlk)
theorem g_lretJ {S : gS} {v : Int64} {C N mc ms : Nat} {P : Int64 ⊕ gTh → gS → Prop} (hx : p.tables.exec = Jvm.exec) (hb : c.code = cc) (hr : meth.sig.returnType = some .long) (hlk : meth.locks = false) (hH : hp G Rp S H) (hS : va_S G.2.2.2 s.heap H locs) (hkc : kc + C ≤ mc) (hks : ks + N ≤ ms) (hf : ∀ _ : Nat, oky C N (some (.inl v, S, 0, 0)) P) (hdg : decode cc pc = .ok (.lreturn, 1)) : W p l e R s m args below meth c H locs kc ks (gQJ below G Rp iJ P args s mc ms) (F0 m pc ls [.long v]) := by
  obtain ⟨_, _, _, _, h1, -, -, h4⟩ := hf 0
  cases h1
  refine W.widen (k := mc) (n := ms) (by omega) (by omega) ?_
  exact vx_ret (W.lret (v := v) hx hb hr (fun t ht _ => ⟨v, S, h4, g_end hH hS _ t ht⟩) hS.2.2 hdg hlk)
theorem g_aretJ {S : gS} {v : Option Nat} {C N mc ms : Nat} {rt : FieldType} {P : Option Nat ⊕ gTh → gS → Prop} (hx : p.tables.exec = Jvm.exec) (hb : c.code = cc) (hr : meth.sig.returnType = some rt) (hrt : (∃ n, rt = .object n) ∨ ∃ t, rt = .array t) (hlk : meth.locks = false) (hH : hp G Rp S H) (hS : va_S G.2.2.2 s.heap H locs) (hkc : kc + C ≤ mc) (hks : ks + N ≤ ms) (hf : ∀ _ : Nat, oky C N (some (.inl v, S, 0, 0)) P) (hdg : decode cc pc = .ok (.areturn, 1)) : W p l e R s m args below meth c H locs kc ks (gQJ below G Rp iR P args s mc ms) (F0 m pc ls [va_rf v]) := by
  obtain ⟨_, _, _, _, h1, -, -, h4⟩ := hf 0
  cases h1
  refine W.widen (k := mc) (n := ms) (by omega) (by omega) ?_
  exact vx_ret (W.aret (v := va_rf v) hx hb hr hrt (by cases v with
    | none => exact Or.inl rfl
    | some a => exact Or.inr ⟨a, rfl⟩) (fun t ht _ => ⟨v, S, h4, g_end hH hS _ t ht⟩) hS.2.2 hdg hlk)
theorem g_vretJ {S : gS} {C N mc ms : Nat} {P : Unit ⊕ gTh → gS → Prop} (hx : p.tables.exec = Jvm.exec) (hb : c.code = cc) (hr : meth.sig.returnType = none) (hlk : meth.locks = false) (hH : hp G Rp S H) (hS : va_S G.2.2.2 s.heap H locs) (hkc : kc + C ≤ mc) (hks : ks + N ≤ ms) (hf : ∀ _ : Nat, oky C N (some (.inl (), S, 0, 0)) P) (hdg : decode cc pc = .ok (.return_, 1)) : W p l e R s m args below meth c H locs kc ks (gQJ below G Rp iV P args s mc ms) (F0 m pc ls []) := by
  obtain ⟨_, _, _, _, h1, -, -, h4⟩ := hf 0
  cases h1
  refine W.widen (k := mc) (n := ms) (by omega) (by omega) ?_
  exact vx_ret (W.vret hx hb hr (fun t ht _ => ⟨(), S, h4, g_end hH hS _ t ht⟩) hS.2.2 hdg hlk)
/-- thrown out of the method -/
theorem g_outJ {α : Type} {ι : α → Option Value} {S : gS} {E : String} {x : Option Nat} {q : Nat} {ce : Cell} {C N mc ms c1 n1 : Nat} {P : α ⊕ gTh → gS → Prop} (htb : ∀ x ∈ c.exceptionTable.toList, covers x pc = false) (hlk : meth.locks = false) (hH : hpx G Rp S x q H) (hS : va_S G.2.2.2 s.heap H locs) (hkc : kc + C ≤ mc + c1) (hks : ks + N ≤ ms + n1) (hce : H[q]? = some ce) (hcv : ce.vm = .none) (hcl : s.vm.findClass E = some ce.cls) (hf : ∀ _ : Nat, oky C N (some (.inr (E, x), S, c1, n1)) P) : vx_W p l e R s m args below meth c H locs kc ks (gQJ below G Rp ι P args s mc ms) (F0 m pc ls rest) q := by
  obtain ⟨_, _, _, _, h1, h2, h3, h4⟩ := hf 0
  cases h1
  exact vx_out htb hlk hce hcv hcl (fun t ht _ => ⟨(E, x), S, h4, rfl, by rw [ht]; exact hH, hS.F ht⟩) hS.2.2 (by omega) (by omega)
/-- athrow of an object of known class -/
theorem g_athrow {S : gS} {o : Option Nat} {q ci : Nat} {cl : vw_C} {fs : List Value} (hx : p.tables.exec = Jvm.exec) (hb : c.code = cc) (hE : gE G s s.heap) (hk : rOK Rp) (hH : hp G Rp S H) (hc : gCl[ci]? = some cl) (eo : o = some q) (e1 : S.1 q = some (cO ci fs)) (hdg : decode cc pc = .ok (.athrow, 1))
    (kk : ∀ ce : Cell, H[q]? = some ce → ce.vm = .none → s.vm.findClass cl.1 = some ce.cls → vx_W p l e R s m args below meth c H locs kc ks Q (F0 m pc ls rest) q) : W p l e R s m args below meth c H locs kc ks Q (F0 m pc ls (va_rf o :: rest)) := by
  subst eo
  obtain ⟨q', h1, cell, g1, g2, g3, -⟩ := hp_obj hk hH e1 0 _ rfl
  cases Option.some.inj (h1.symm.trans hc)
  exact vx_athrow hx hb hdg (kk cell g1 g3 (by rw [g2]; exact (hE.1.1 ci cl hc).2.1))
-- calls
theorem g_callJ {α : Type} {ι : α → Option Value} {P : α ⊕ gTh → gS → Prop} {st0 : List Value} {a : Array Value} {C N : Nat} (hrun : vx_Run p l e R s m args below meth c H locs kc ks C N (F0 m pc ls st0) rest (gJq G Rp ι P a) (gJc G Rp P) G.2.2.2) (hS : va_S G.2.2.2 s.heap H locs)
    (kk : ∀ (v : α) (S2 : gS) (H1 : Heap) (locs1 : List Loc), P (.inl v) S2 → hp G Rp S2 H1 → va_S G.2.2.2 s.heap H1 locs1 → W p l e R s m args below meth c H1 locs1 (kc + C) (ks + N) Q (F0 m (pc + 3) ls ((ι v).toList ++ rest)))
    (kx : ∀ (E : String) (x : Option Nat) (S2 : gS) (q : Nat) (ce : Cell) (H1 : Heap) (locs1 : List Loc), P (.inr (E, x)) S2 → hpx G Rp S2 x q H1 → va_S G.2.2.2 s.heap H1 locs1 → H1[q]? = some ce → ce.vm = .none → s.vm.findClass E = some ce.cls → vx_W p l e R s m args below meth c H1 locs1 (kc + C) (ks + N) Q (F0 m pc ls rest) q) : W p l e R s m args below meth c H locs kc ks Q (F0 m pc ls st0) := by
  intro T hT X
  rcases hrun T hT X with ⟨v', st₀, t, T', L, h0, X', hL, e1, e2, hq, st⟩ | ⟨q, st₀, t, T', L, E, ce, h0, X', hL, e1, e2, hxc, hce, hv, hcl, st⟩
  · obtain ⟨v, S2, hP, hv, hH1, hz2, hk⟩ := hq
    cases hv
    rw [h0] at hz2 hk
    obtain ⟨t2, a1, b1⟩ := kk v S2 T'.heap (locs ++ L) hP (by rw [e1]; exact hH1) ⟨Nat.le_trans hS.1 (by rw [e1]; exact hz2), fun q h1 h2 => by rw [e1, hk q (Nat.lt_of_lt_of_le h1 hS.1) h2]; exact hS.2.1 q h1 h2, fun q hq => by
      rcases List.mem_append.mp hq with h | h
      · exact hS.2.2 q h
      · exact hL q h⟩ T' rfl X'
    exact ⟨t2, st t2 a1, b1⟩
  · obtain ⟨⟨E', x⟩, S2, hP, rfl, hH1, hz2, hk⟩ := hxc
    rw [h0] at hz2 hk
    obtain ⟨t2, a1, b1⟩ := kx _ x S2 q ce T'.heap (locs ++ L) hP (by rw [e1]; exact hH1) ⟨Nat.le_trans hS.1 (by rw [e1]; exact hz2), fun q h1 h2 => by rw [e1, hk q (Nat.lt_of_lt_of_le h1 hS.1) h2]; exact hS.2.1 q h1 h2, fun q hq => by
      rcases List.mem_append.mp hq with h | h
      · exact hS.2.2 q h
      · exact hL q h⟩ (by rw [e1]; exact hce) hv hcl T' rfl X'
    exact ⟨t2, st.trans a1, b1⟩
theorem g_callVJ {α : Type} {ι : α → Option Value} {P : α ⊕ gTh → gS → Prop} {y : MethodName} {own nm : String} {bytes : ByteArray} {maxL nL fr lo fr' lo' n index C N mc ms b : Nat} {o : Option Nat} {ret ret' : Option FieldType} {As st0 : List Value} {S : gS} (hc : gC p s m args meth c G own nm cc nL ret') (hM : gMetJ l y (ws_ y bytes maxL ret) fr' lo' G Rp (.ref b :: As) S ι P C N) (cw : CallW (gR fr lo mc ms) s args own y.cls index y bytes maxL ret (ws_ y bytes maxL ret) (gR fr' lo' C N) C N n) (hrc : ∃ cell : Cell, H[b]? = some cell ∧ cell.vm.isStatics = false ∧ s.vm.findClass y.cls = some cell.cls) (eo : o = some b) (hn : As.length = n) (hsize : ls.size = nL) (hst0 : st0 = As.reverse ++ va_rf o :: rest) (hW : 2 * (F0 m pc ls st0).monitorRoom + (rest.map fun v => v.category).sum ≤ 8) (hdg : decode cc pc = .ok (.invokevirtual index, 3)) (hH : hp G Rp S H) (hS : va_S G.2.2.2 s.heap H locs) (hkc : kc + C ≤ mc) (hks : ks + N ≤ ms)
    (kk : ∀ (v : α) (S2 : gS) (H1 : Heap) (locs1 : List Loc), P (.inl v) S2 → hp G Rp S2 H1 → va_S G.2.2.2 s.heap H1 locs1 → W p l e (gR fr lo mc ms) s m args below meth c H1 locs1 (kc + C) (ks + N) Q (F0 m (pc + 3) ls ((ι v).toList ++ rest)))
    (kx : ∀ (E : String) (x : Option Nat) (S2 : gS) (q : Nat) (ce : Cell) (H1 : Heap) (locs1 : List Loc), P (.inr (E, x)) S2 → hpx G Rp S2 x q H1 → va_S G.2.2.2 s.heap H1 locs1 → H1[q]? = some ce → ce.vm = .none → s.vm.findClass E = some ce.cls → vx_W p l e (gR fr lo mc ms) s m args below meth c H1 locs1 (kc + C) (ks + N) Q (F0 m pc ls rest) q) : W p l e (gR fr lo mc ms) s m args below meth c H locs kc ks Q (F0 m pc ls st0) := by
  subst eo
  obtain ⟨hx, hb, hr, hlk, hml, hown, hts, hE, hA, hnm⟩ := hc
  exact g_callJ (vx_runV (As := As) (rest := rest) ⟨hx, hb, hml, hown, hts⟩ hM cw ⟨g_blind, hrc, g_pre hE hA hH hS⟩ rfl hn hsize hst0 hW hdg ⟨hkc, hks⟩) hS kk kx
theorem g_callSJ {α : Type} {ι : α → Option Value} {P : α ⊕ gTh → gS → Prop} {y : MethodName} {own nm : String} {bytes : ByteArray} {maxL nL fr lo fr' lo' n index C N mc ms : Nat} {ret ret' : Option FieldType} {As st0 : List Value} {S : gS} (hc : gC p s m args meth c G own nm cc nL ret') (hM : gMetJ l y (ws_ y bytes maxL ret) fr' lo' G Rp As S ι P C N) (cw : CallB (gR fr lo mc ms) s args own index y bytes maxL ret (ws_ y bytes maxL ret) (gR fr' lo' C N) C N n ∧ (Cond.static y).before args s = true) (hn : As.length = n) (hsize : ls.size = nL) (hst0 : st0 = As.reverse ++ rest) (hW : 2 * (F0 m pc ls st0).monitorRoom + (rest.map fun v => v.category).sum ≤ 8) (hdg : decode cc pc = .ok (.invokestatic index, 3)) (hH : hp G Rp S H) (hS : va_S G.2.2.2 s.heap H locs) (hkc : kc + C ≤ mc) (hks : ks + N ≤ ms)
    (kk : ∀ (v : α) (S2 : gS) (H1 : Heap) (locs1 : List Loc), P (.inl v) S2 → hp G Rp S2 H1 → va_S G.2.2.2 s.heap H1 locs1 → W p l e (gR fr lo mc ms) s m args below meth c H1 locs1 (kc + C) (ks + N) Q (F0 m (pc + 3) ls ((ι v).toList ++ rest)))
    (kx : ∀ (E : String) (x : Option Nat) (S2 : gS) (q : Nat) (ce : Cell) (H1 : Heap) (locs1 : List Loc), P (.inr (E, x)) S2 → hpx G Rp S2 x q H1 → va_S G.2.2.2 s.heap H1 locs1 → H1[q]? = some ce → ce.vm = .none → s.vm.findClass E = some ce.cls → vx_W p l e (gR fr lo mc ms) s m args below meth c H1 locs1 (kc + C) (ks + N) Q (F0 m pc ls rest) q) : W p l e (gR fr lo mc ms) s m args below meth c H locs kc ks Q (F0 m pc ls st0) := by
  obtain ⟨hx, hb, hr, hlk, hml, hown, hts, hE, hA, hnm⟩ := hc
  exact g_callJ (vx_runS (As := As) (rest := rest) ⟨hx, hb, hml, hown, hts⟩ hM cw ⟨g_blind, g_pre hE hA hH hS⟩ rfl hn hsize hst0 hW hdg ⟨hkc, hks⟩) hS kk kx
theorem g_callSWJ {α : Type} {ι : α → Option Value} {P : α ⊕ gTh → gS → Prop} {y : MethodName} {own nm : String} {bytes : ByteArray} {hh : List (Nat × Nat × Nat × Nat)} {maxL nL fr lo fr' lo' n index C N mc ms : Nat} {ret ret' : Option FieldType} {As st0 : List Value} {S : gS} (hc : gC p s m args meth c G own nm cc nL ret') (hM : gMetJ l y (wsW_ y bytes maxL ret hh) fr' lo' G Rp As S ι P C N) (cw : vx_CSW (gR fr lo mc ms) s args own index y bytes maxL ret hh (wsW_ y bytes maxL ret hh) (gR fr' lo' C N) C N n) (hn : As.length = n) (hsize : ls.size = nL) (hst0 : st0 = As.reverse ++ rest) (hW : 2 * (F0 m pc ls st0).monitorRoom + (rest.map fun v => v.category).sum ≤ 8) (hdg : decode cc pc = .ok (.invokestatic index, 3)) (hH : hp G Rp S H) (hS : va_S G.2.2.2 s.heap H locs) (hkc : kc + C ≤ mc) (hks : ks + N ≤ ms)
    (kk : ∀ (v : α) (S2 : gS) (H1 : Heap) (locs1 : List Loc), P (.inl v) S2 → hp G Rp S2 H1 → va_S G.2.2.2 s.heap H1 locs1 → W p l e (gR fr lo mc ms) s m args below meth c H1 locs1 (kc + C) (ks + N) Q (F0 m (pc + 3) ls ((ι v).toList ++ rest)))
    (kx : ∀ (E : String) (x : Option Nat) (S2 : gS) (q : Nat) (ce : Cell) (H1 : Heap) (locs1 : List Loc), P (.inr (E, x)) S2 → hpx G Rp S2 x q H1 → va_S G.2.2.2 s.heap H1 locs1 → H1[q]? = some ce → ce.vm = .none → s.vm.findClass E = some ce.cls → vx_W p l e (gR fr lo mc ms) s m args below meth c H1 locs1 (kc + C) (ks + N) Q (F0 m pc ls rest) q) : W p l e (gR fr lo mc ms) s m args below meth c H locs kc ks Q (F0 m pc ls st0) := by
  obtain ⟨hx, hb, hr, hlk, hml, hown, hts, hE, hA, hnm⟩ := hc
  exact g_callJ (vx_runSX (As := As) (rest := rest) ⟨hx, hb, hml, hown, hts⟩ hM cw ⟨g_blind, g_pre hE hA hH hS⟩ rfl hn hsize hst0 hW hdg ⟨hkc, hks⟩) hS kk kx
/-- a method that never throws -/
theorem vx_never {y : MethodName} {ws : List Cond} {rm : Room} {Pc : Array Value → State → Prop} {Qc : Array Value → State → Outcome → State → Prop} {XC : String → Nat → State → State → Prop} {mc ms : Nat} {free : Addr → Prop} (h : vx_Met l y ws rm Pc Qc XC mc ms free) (hX : ∀ E q st t, ¬ XC E q st t) : Met l y ws rm Pc Qc mc ms free := by
  intro p e h1 h2 h3 s m args below h4 h5 h6 h7
  obtain ⟨n, o, a1, a2, a3, a4⟩ := h p e h1 h2 h3 s m args below h4 h5 h6 trivial
  rcases a4 with ⟨b1, b2⟩ | ⟨q, b1, E, ce, L, b2, -⟩
  · exact ⟨n, o, a1, a2, a3, b1, b2⟩
  · exact absurd b2 (hX _ _ _ _)
theorem gMetJ_W {α : Type} {y : MethodName} {maxL fr lo C N : Nat} {ret : Option FieldType} {hh : List (Nat × Nat × Nat × Nat)} {av : List Value} {S S2 : gS} {ι : α → Option Value} {r2 : α} (h : gMetJ l y (wsW_ y cc maxL ret hh) fr lo G Rp av S ι (fun r S9 => (.inl r2 : α ⊕ gTh) = r ∧ S2 = S9) C N) : gMetW l y cc maxL ret hh fr lo G Rp av S (ι r2) S2 C N := by
  intro p e h1 h2 h3 s m args below h4 h5 h6 h7
  obtain ⟨n, o, a1, a2, a3, a4⟩ := h p e h1 h2 h3 s m args below h4 h5 h6 trivial
  rcases a4 with ⟨⟨v, S9, ⟨e1, e2⟩, b1⟩, b2⟩ | ⟨q, b1, E, ce, L, ⟨x, S9, ⟨e1, e2⟩, -⟩, -⟩
  · cases e1
    subst e2
    exact ⟨n, o, a1, a2, a3, b1, b2⟩
  · cases e1
def xin {α : Type} (o : gX α) : gO α := match o with
  | some (.inl v, S, c, n) => some (v, S, c, n)
  | _ => none
theorem xin_o {α : Type} {o : gX α} {v : α} {S : gS} {c n : Nat} (h : xin o = some (v, S, c, n)) : o = some (.inl v, S, c, n) := by
  unfold xin at h
  split at h
  next => cases h; rfl
  next => cases h
theorem okc {ρ : Type} {C N c n : Nat} {r : ρ} {S : gS} {P : ρ → gS → Prop} (h : ∀ _ : Nat, oky C N (some (r, S, c, n)) P) : c ≤ C ∧ n ≤ N := by
  obtain ⟨_, _, _, _, h1, h2, h3, -⟩ := h 0
  cases h1
  exact ⟨h2, h3⟩
theorem g_callVW {y : MethodName} {own nm : String} {bytes : ByteArray} {hh : List (Nat × Nat × Nat × Nat)} {maxL nL fr lo fr' lo' n index C N mc ms b : Nat} {o : Option Nat} {ret ret' : Option FieldType} {As st0 st1 : List Value} {v : Option Value} {S S2 : gS} (hc : gC p s m args meth c G own nm cc nL ret') (hM : gMetW l y bytes maxL ret hh fr' lo' G Rp (.ref b :: As) S v S2 C N) (cw : vx_CVW (gR fr lo mc ms) s args own y.cls index y bytes maxL ret hh (wsW_ y bytes maxL ret hh) (gR fr' lo' C N) C N n) (hrc : ∃ cell : Cell, H[b]? = some cell ∧ cell.vm.isStatics = false ∧ s.vm.findClass y.cls = some cell.cls) (eo : o = some b) (hn : As.length = n) (hsize : ls.size = nL) (hst0 : st0 = As.reverse ++ va_rf o :: rest) (hst : v.toList ++ rest = st1) (hW : 2 * (F0 m pc ls st0).monitorRoom + (rest.map fun v => v.category).sum ≤ 8) (hdg : decode cc pc = .ok (.invokevirtual index, 3)) (hH : hp G Rp S H) (hS : va_S G.2.2.2 s.heap H locs) (hkc : kc + C ≤ mc) (hks : ks + N ≤ ms)
    (kk : ∀ (H1 : Heap) (locs1 : List Loc), hp G Rp S2 H1 → va_S G.2.2.2 s.heap H1 locs1 → W p l e (gR fr lo mc ms) s m args below meth c H1 locs1 (kc + C) (ks + N) Q (F0 m (pc + 3) ls st1)) : W p l e (gR fr lo mc ms) s m args below meth c H locs kc ks Q (F0 m pc ls st0) := by
  subst eo
  obtain ⟨hx, hb, hr, hlk, hml, hown, hts, hE, hA, hnm⟩ := hc
  exact g_call (vx_runVW (As := As) (rest := rest) ⟨hx, hb, hml, hown, hts⟩ hM cw ⟨g_blind, hrc, g_pre hE hA hH hS⟩ rfl hn hsize hst0 hW hdg ⟨hkc, hks⟩) hS hst kk
theorem lp0 {P : ExceptionTableEntry → Prop} : ∀ z ∈ ([] : List ExceptionTableEntry), P z := fun _ h => nomatch h
theorem lpc {P : ExceptionTableEntry → Prop} {x : ExceptionTableEntry} {L : List ExceptionTableEntry} (h : P x) (t : ∀ z ∈ L, P z) : ∀ z ∈ x :: L, P z := fun z hz => (List.mem_cons.mp hz).elim (fun e => e ▸ h) (t z)
/-- the machine throws: where it goes on -/
theorem g_vm {cls text own nm : String} {names : List String} {nb nL fr lo mc ms : Nat} {ret' : Option FieldType} {S : gS} (hc : gC p s m args meth c G own nm cc nL ret') (hst : l.stackTraces = false) (hk : rOK Rp) (hcls : Bundle.fit cls = true) (hnames : ∀ n ∈ names, Bundle.fit n = true) (hsoe : (cls == "java/lang/StackOverflowError") = false) (hoom : (cls == "java/lang/OutOfMemoryError") = false) (hat : ∀ w ∈ vx_atM cls names, w.before args s = true) (hgood : ∀ w ∈ vx_atM cls names, vx_ot w = true) (hsize : ls.size = nL) (htext : (text == notModelled) = false) (hnb : (stringBytes (stringToUtf16 text)).size ≤ nb) (hnb1 : nb ≤ 1000) (hfr : names.length + 4 < fr) (hlo : (rest.map fun v => v.category).sum + 10240 ≤ lo) (hshort : 13 * names.length + 55 ≤ 10240) (hkc : kc + 3 ≤ mc) (hks : ks + 1010 ≤ ms) (hH : hp G Rp S H) (hS : va_S G.2.2.2 s.heap H locs)
    (kk : ∀ (H1 : Heap) (q9 : Nat) (ce : Cell) (n : Nat), S.2 ≤ n → hp G Rp (S.1, n) H1 → va_S G.2.2.2 s.heap H1 locs → H1[q9]? = some ce → ce.vm = .none → s.vm.findClass cls = some ce.cls → vx_W p l e (gR fr lo mc ms) s m args below meth c H1 locs (kc + 3) (ks + 1010) Q (F0 m pc ls rest) q9) : vx_Note p l e (gR fr lo mc ms) s m args below meth c H locs kc ks Q (F0 m pc ls rest) cls text := by
  obtain ⟨hx, hb, hr, hlk, hml, hown, hts, hE, hA, hnm⟩ := hc
  obtain ⟨g1, g2, g3, g4⟩ := hE.2.2.2.2.2.2.2.2.2.1
  have zq : ∀ {C n d : String} {o : Option Nat} {U : State} {H : Heap}, va_Z C n d (va_rf o) G.2.2.2 U H → va_Zq C n d G.2.2.2 U H := fun {C n d o U H} h => by
    cases o with
    | none => exact Or.inl h
    | some t => exact Or.inr ⟨t, h⟩
  refine vx_vm (names := names) (nb := nb) (A := G.2.2.2) hx hst hcls hnames hsoe hoom hat hgood ⟨zq g1, g3⟩ ⟨zq g2, g4⟩ hS (hsize.trans hml.symm) htext hnb hnb1 hfr hlo hshort hkc (Nat.le_trans (by omega) hks) hlk (fun H1 q9 ce h1 h2 h3 h4 h5 h6 => ?_)
  obtain ⟨k1, k2⟩ := hp_later hk hH h1 h2
  exact vx_widen (by omega) (by omega) (kk H1 q9 ce H1.size k1 k2 h3 h4 h5 h6)
end EXW
