/-! ROWS, third part: causes (four classes under one), texts, instanceof, casts, stores of narrow numbers, super calls -/
set_option maxRecDepth 100000
set_option maxHeartbeats 4000000
theorem lw_of6 {a b c d f g : Cond} (h1 : a ∈ lw_all) (h2 : b ∈ lw_all) (h3 : c ∈ lw_all) (h4 : d ∈ lw_all) (h5 : f ∈ lw_all) (h6 : g ∈ lw_all) : ∀ w ∈ [a, b, c, d, f, g], w ∈ lw_all := by
  intro w hw
  simp only [List.mem_cons, List.not_mem_nil, or_false] at hw
  rcases hw with rfl | rfl | rfl | rfl | rfl | rfl
  · exact h1
  · exact h2
  · exact h3
  · exact h4
  · exact h5
  · exact h6
/-- a field of a cause, whichever of the four classes it has (11 .. 14) -/
def rdP (S : gS) (a k : Nat) : Option Value := match S.1 a with
  | some (.inl q) => if q.1 = 11 ∨ q.1 = 12 ∨ q.1 = 13 ∨ q.1 = 14 then q.2[k]? else none
  | _ => none
def rdPI (S : gS) (a k : Nat) : Option Int32 := (rdP S a k).bind toI
def rdPR (S : gS) (a k : Nat) : Option (Option Nat) := (rdP S a k).bind toR
theorem rdP_o {S : gS} {a k : Nat} {v : Value} (h : rdP S a k = some v) : rdV S a 11 k = some v ∨ rdV S a 12 k = some v ∨ rdV S a 13 k = some v ∨ rdV S a 14 k = some v := by
  unfold rdP at h
  split at h
  next q hq =>
    split at h
    next e =>
      unfold rdV
      rw [hq]
      rcases e with e | e | e | e
      · exact Or.inl ((if_pos e).trans h)
      · exact Or.inr (Or.inl ((if_pos e).trans h))
      · exact Or.inr (Or.inr (Or.inl ((if_pos e).trans h)))
      · exact Or.inr (Or.inr (Or.inr ((if_pos e).trans h)))
    next => cases h
  next => cases h
theorem rdPI_o {S : gS} {a k : Nat} {x : Int32} (h : rdPI S a k = some x) : rdP S a k = some (.int x) := by
  unfold rdPI at h
  cases hv : rdP S a k with
  | none => rw [hv] at h; cases h
  | some v =>
    rw [hv] at h
    cases v <;> first | (cases h; rfl) | cases h
theorem rdPR_o {S : gS} {a k : Nat} {x : Option Nat} (h : rdPR S a k = some x) : rdP S a k = some (va_rf x) := by
  unfold rdPR at h
  cases hv : rdP S a k with
  | none => rw [hv] at h; cases h
  | some v =>
    rw [hv] at h
    cases v <;> first | (cases h; rfl) | cases h
/-- the classes under Cause (0), Failure (1), Loss (2) -/
def inD (d ci : Nat) : Bool := if d = 0 then ci == 11 || ci == 12 || ci == 13 || ci == 14 else if d = 1 then ci == 11 || ci == 12 else ci == 13 || ci == 14
def nmD (d : Nat) : String := if d = 0 then "CreditBroker$Cause" else if d = 1 then "CreditBroker$Failure" else "CreditBroker$Loss"
theorem inD_c {d ci : Nat} (h : inD d ci = true) : ci = 11 ∨ ci = 12 ∨ ci = 13 ∨ ci = 14 := by
  unfold inD at h
  split at h
  · simp only [Bool.or_eq_true, beq_iff_eq] at h; omega
  · split at h <;> simp only [Bool.or_eq_true, beq_iff_eq] at h <;> omega
/-- a cast to Cause, Failure, Loss -/
def ckP (S : gS) (o : Option Nat) (d : Nat) : Option Unit := match o with
  | none => some ()
  | some a => match clsO S a with
    | some ci => if inD d ci = true then some () else none
    | none => none
theorem ckP_o {S : gS} {a d : Nat} {u : Unit} (h : ckP S (some a) d = some u) : ∃ ci fs, inD d ci = true ∧ S.1 a = some (cO ci fs) := by
  simp only [ckP] at h
  split at h
  next ci hci =>
    split at h
    next h9 => obtain ⟨fs, h1⟩ := clsO_o hci; exact ⟨ci, fs, h9, h1⟩
    next => cases h
  next => cases h
/-- a field of a failure -/
def rdF (S : gS) (a k : Nat) : Option Value := match S.1 a with
  | some (.inl q) => if q.1 = 11 ∨ q.1 = 12 then q.2[k]? else none
  | _ => none
def rdFI (S : gS) (a k : Nat) : Option Int32 := (rdF S a k).bind toI
theorem rdF_o {S : gS} {a k : Nat} {v : Value} (h : rdF S a k = some v) : rdV S a 11 k = some v ∨ rdV S a 12 k = some v := by
  unfold rdF at h
  split at h
  next q hq =>
    split at h
    next e =>
      unfold rdV
      rw [hq]
      rcases e with e | e
      · exact Or.inl ((if_pos e).trans h)
      · exact Or.inr ((if_pos e).trans h)
    next => cases h
  next => cases h
theorem rdFI_o {S : gS} {a k : Nat} {x : Int32} (h : rdFI S a k = some x) : rdF S a k = some (.int x) := by
  unfold rdFI at h
  cases hv : rdF S a k with
  | none => rw [hv] at h; cases h
  | some v =>
    rw [hv] at h
    cases v <;> first | (cases h; rfl) | cases h
def arN : Nat → String := fun t => match t with
  | 0 => "[I"
  | 1 => "[J"
  | 2 => "[B"
  | 3 => "[S"
  | _ => "[Z"
/-- the kind of an array of numbers -/
def knd (S : gS) (a : Nat) : Option Nat := match S.1 a with
  | some (.inr (.inl q)) => if q.1 < 5 then some q.1 else none
  | _ => none
/-- instanceof Cause -/
def insC (S : gS) (o : Option Nat) : Option Int32 := match o with
  | none => some (nI 0)
  | some a => match clsO S a with
    | some ci => if inD 0 ci = true then some (nI 1) else none
    | none => bd (knd S a) fun _ => some (nI 0)
/-- instanceof an array of kind t -/
def ordA : Nat → Nat := fun t => match t with
  | 2 => 0
  | 3 => 1
  | 0 => 2
  | 1 => 3
  | _ => 4
/-- the tests run in the order byte, short, int, long: what is earlier in it is not asked -/
def insA (S : gS) (o : Option Nat) (t : Nat) : Option Int32 := match o with
  | none => some (nI 0)
  | some a => bd (knd S a) fun k => if k = t then some (nI 1) else if ordA t < ordA k then some (nI 0) else none
theorem ordA_nc {t k : Nat} (ht : t < 5) (hk : k < 5) (h : ordA t < ordA k) : (arN k, arN t) ∈ gNcL := by
  rcases (show t = 0 ∨ t = 1 ∨ t = 2 ∨ t = 3 ∨ t = 4 by omega) with rfl | rfl | rfl | rfl | rfl <;> rcases (show k = 0 ∨ k = 1 ∨ k = 2 ∨ k = 3 ∨ k = 4 by omega) with rfl | rfl | rfl | rfl | rfl <;> first | (exact absurd h (by decide)) | (decide +kernel)
/-- a store into an array of bytes or shorts -/
def narK (t : Nat) (x : Int32) : Int32 := if t = 2 then vp_nar .byte x else vp_nar .short x
def wrAn (S : gS) (a t : Nat) (i x : Int32) : Option gS := match S.1 a with
  | some (.inr (.inl (t', n, .inl f))) => if t' = t ∧ ¬ (i < 0 ∨ n ≤ i.toNatClampNeg) then some (gup S.1 a (cAi t n (upd f i.toNatClampNeg (narK t x))), S.2) else none
  | _ => none
theorem wrAn_o {S S' : gS} {a t : Nat} {i x : Int32} (h : wrAn S a t i x = some S') : ∃ n f, S.1 a = some (cAi t n f) ∧ vp_in i n ∧ S' = (gup S.1 a (cAi t n (upd f i.toNatClampNeg (narK t x))), S.2) := by
  unfold wrAn at h
  split at h
  next t' n f hq =>
    split at h
    next e => obtain ⟨rfl, e2⟩ := e; cases h; exact ⟨n, f, hq, e2, rfl⟩
    next => cases h
  next => cases h
def ckA (S : gS) (o : Option Nat) (t : Nat) : Option Unit := match o with
  | none => some ()
  | some a => bd (knd S a) fun k => if k = t then some () else none
/-- a store into an array of booleans -/
def wrAz (S : gS) (a : Nat) (i x : Int32) : Option gS := match S.1 a with
  | some (.inr (.inl (t', n, .inl f))) => if t' = 4 ∧ ¬ (i < 0 ∨ n ≤ i.toNatClampNeg) ∧ (x = nI 0 ∨ x = nI 1) then some (gup S.1 a (cAi 4 n (upd f i.toNatClampNeg x)), S.2) else none
  | _ => none
theorem wrAz_o {S S' : gS} {a : Nat} {i x : Int32} (h : wrAz S a i x = some S') : ∃ n f, S.1 a = some (cAi 4 n f) ∧ vp_in i n ∧ (x = nI 0 ∨ x = nI 1) ∧ S' = (gup S.1 a (cAi 4 n (upd f i.toNatClampNeg x)), S.2) := by
  unfold wrAz at h
  split at h
  next t' n f hq =>
    split at h
    next e => obtain ⟨rfl, e2, e3⟩ := e; cases h; exact ⟨n, f, hq, e2, e3, rfl⟩
    next => cases h
  next => cases h
/-- a new array of references -/
def nwq {β : Type} (S : gS) (t : Nat) (i : Int32) (k : gS → gO β) : gO β := if i < 0 ∨ 100000 < i.toNatClampNeg then none else nw S (cAq t i.toNatClampNeg (fun _ => none)) i.toNatClampNeg k
theorem nwqo {β : Type} {S : gS} {t : Nat} {i : Int32} {k : gS → gO β} {r : β} {Sf : gS} {C N : Nat} (h : nwq S t i k = some (r, Sf, C, N)) : ¬ i < 0 ∧ i.toNatClampNeg ≤ 100000 ∧ ∃ S1 c2 n2, S1 = mk S (cAq t i.toNatClampNeg (fun _ => none)) ∧ k S1 = some (r, Sf, c2, n2) ∧ C = 1 + c2 ∧ N = i.toNatClampNeg + n2 := by
  unfold nwq at h
  split at h
  next => cases h
  next q => exact ⟨fun z => q (Or.inl z), Nat.not_lt.mp fun z => q (Or.inr z), nwo h⟩
theorem knd_o {S : gS} {a k : Nat} (h : knd S a = some k) : k < 5 ∧ ∃ f, S.1 a = some (.inr (.inl (k, f))) := by
  unfold knd at h
  split at h
  next q hq =>
    split at h
    next e => cases h; exact ⟨e, q.2, hq⟩
    next => cases h
  next => cases h
section
variable {p : Program} {l : Launch} {e : Env} {s : State} {m : MethodId} {args : Array Value} {below : List Frame} {meth : Method} {c : Code} {G : gG} {Rp : gM → gM → Nat → Prop} {R : Room} {H : Heap} {locs : List Loc} {Q : State → Prop} {cc : ByteArray} {ls : Array Slot} {rest : List Value} {pc : Nat} {kc ks : Nat}
theorem g_getP {own ref : String} {index k : Nat} {o : Option Nat} {a : Nat} {v : Value} {S : gS} (hx : p.tables.exec = Jvm.exec) (hb : c.code = cc) (hts : ∀ w ∈ lw_all, w.before args s = true) (hown : s.vm.findClass own = some m.cls) (hE : gE G s s.heap) (hk : rOK Rp) (hH : hp G Rp S H) (hk3 : k < 3)
    (h1 : (Cond.fieldLink own index ref (TX18 k).2.1 (TX18 k).2.2.1).before args s = true) (hsame : ∀ x, s.fieldFound? "CreditBroker$Cause" (TX18 k).2.1 (TX18 k).2.2.1 = some x → s.fieldFound? ref (TX18 k).2.1 (TX18 k).2.2.1 = some x) (eo : o = some a) (e1 : rdP S a k = some v) (hdg : decode cc pc = .ok (.getfield index, 3))
    (kk : W p l e R s m args below meth c H locs kc ks Q (F0 m (pc + 3) ls (v :: rest))) : W p l e R s m args below meth c H locs kc ks Q (F0 m pc ls (va_rf o :: rest)) := by
  rcases (show k = 0 ∨ k = 1 ∨ k = 2 by omega) with rfl | rfl | rfl
  · rcases rdP_o e1 with e2 | e2 | e2 | e2
    · exact g_get (k := 0) (ref := ref) (C := RX18) (T := TX18) (N := 5) hx hb hts hown hE hk hH in_X18 rfl (by decide) h1 hsame eo e2 hdg kk
    · exact g_get (k := 0) (ref := ref) (C := RX19) (T := TX19) (N := 5) hx hb hts hown hE hk hH in_X19 rfl (by decide) h1 hsame eo e2 hdg kk
    · exact g_get (k := 0) (ref := ref) (C := RX20) (T := TX20) (N := 4) hx hb hts hown hE hk hH in_X20 rfl (by decide) h1 hsame eo e2 hdg kk
    · exact g_get (k := 0) (ref := ref) (C := RX14) (T := TX14) (N := 4) hx hb hts hown hE hk hH in_X14 rfl (by decide) h1 hsame eo e2 hdg kk
  · rcases rdP_o e1 with e2 | e2 | e2 | e2
    · exact g_get (k := 1) (ref := ref) (C := RX18) (T := TX18) (N := 5) hx hb hts hown hE hk hH in_X18 rfl (by decide) h1 hsame eo e2 hdg kk
    · exact g_get (k := 1) (ref := ref) (C := RX19) (T := TX19) (N := 5) hx hb hts hown hE hk hH in_X19 rfl (by decide) h1 hsame eo e2 hdg kk
    · exact g_get (k := 1) (ref := ref) (C := RX20) (T := TX20) (N := 4) hx hb hts hown hE hk hH in_X20 rfl (by decide) h1 hsame eo e2 hdg kk
    · exact g_get (k := 1) (ref := ref) (C := RX14) (T := TX14) (N := 4) hx hb hts hown hE hk hH in_X14 rfl (by decide) h1 hsame eo e2 hdg kk
  · rcases rdP_o e1 with e2 | e2 | e2 | e2
    · exact g_get (k := 2) (ref := ref) (C := RX18) (T := TX18) (N := 5) hx hb hts hown hE hk hH in_X18 rfl (by decide) h1 hsame eo e2 hdg kk
    · exact g_get (k := 2) (ref := ref) (C := RX19) (T := TX19) (N := 5) hx hb hts hown hE hk hH in_X19 rfl (by decide) h1 hsame eo e2 hdg kk
    · exact g_get (k := 2) (ref := ref) (C := RX20) (T := TX20) (N := 4) hx hb hts hown hE hk hH in_X20 rfl (by decide) h1 hsame eo e2 hdg kk
    · exact g_get (k := 2) (ref := ref) (C := RX14) (T := TX14) (N := 4) hx hb hts hown hE hk hH in_X14 rfl (by decide) h1 hsame eo e2 hdg kk
theorem g_getF {own : String} {index : Nat} {o : Option Nat} {a : Nat} {v : Value} {S : gS} (hx : p.tables.exec = Jvm.exec) (hb : c.code = cc) (hts : ∀ w ∈ lw_all, w.before args s = true) (hown : s.vm.findClass own = some m.cls) (hE : gE G s s.heap) (hk : rOK Rp) (hH : hp G Rp S H)
    (h1 : (Cond.fieldLink own index "CreditBroker$Failure" (TX18 3).2.1 (TX18 3).2.2.1).before args s = true) (eo : o = some a) (e1 : rdF S a 3 = some v) (hdg : decode cc pc = .ok (.getfield index, 3))
    (kk : W p l e R s m args below meth c H locs kc ks Q (F0 m (pc + 3) ls (v :: rest))) : W p l e R s m args below meth c H locs kc ks Q (F0 m pc ls (va_rf o :: rest)) := by
  rcases rdF_o e1 with e2 | e2
  · exact g_get (k := 3) (ref := "CreditBroker$Failure") (C := RX18) (T := TX18) (N := 5) hx hb hts hown hE hk hH in_X18 rfl (by omega) h1 (fun _ h => h) eo e2 hdg kk
  · exact g_get (k := 3) (ref := "CreditBroker$Failure") (C := RX19) (T := TX19) (N := 5) hx hb hts hown hE hk hH in_X19 rfl (by omega) h1 (fun _ h => h) eo e2 hdg kk
theorem g_ldcS {own tx : String} {index q : Nat} (hx : p.tables.exec = Jvm.exec) (hb : c.code = cc) (hown : s.vm.findClass own = some m.cls) (hZ : vk_R own index tx q s) (hdg : decode cc pc = .ok (.ldc index, 2))
    (kk : W p l e R s m args below meth c H locs kc ks Q (F0 m (pc + 2) ls (.ref q :: rest))) : W p l e R s m args below meth c H locs kc ks Q (F0 m pc ls rest) := va_ldcS hx hb hown hZ hdg kk
theorem arr_recv (hE : gE G s s.heap) (hk : rOK Rp) {S : gS} {a t : Nat} {f : Nat × ((Nat → Int32) ⊕ (Nat → Int64) ⊕ (Nat → Option Nat))} (hH : hp G Rp S H) (h5 : t < 5) (h : S.1 a = some (.inr (.inl (t, f)))) : ∃ cell : Cell, H[a]? = some cell ∧ cell.vm.isStatics = false ∧ s.vm.findClass (arN t) = some cell.cls := by
  obtain ⟨x, hx1, hP⟩ := hp_arr hk hH h
  have hcls : s.vm.findClass (arN t) = some (G.2.1 t) := by
    rcases (show t = 0 ∨ t = 1 ∨ t = 2 ∨ t = 3 ∨ t = 4 by omega) with rfl | rfl | rfl | rfl | rfl
    · exact (hE.1.2 0 _ rfl).2
    · exact (hE.1.2 1 _ rfl).2
    · exact (hE.1.2 2 _ rfl).2
    · exact (hE.1.2 3 _ rfl).2
    · exact (hE.1.2 4 _ rfl).2
  obtain ⟨n, g⟩ := f
  rcases g with g | g | g <;> cases hx1
  · exact ⟨vp_cell (G.2.1 t) (n, .inl g), hP 0 _ rfl, rfl, hcls⟩
  · exact ⟨vp_cell (G.2.1 t) (n, .inr (.inl g)), hP 0 _ rfl, rfl, hcls⟩
  · exact ⟨vp_cell (G.2.1 t) (n, .inr (.inr (.inr (.inr g)))), hP 0 _ rfl, rfl, hcls⟩
/-- the cause's class, castable to Cause -/
theorem cause_recv {d : Nat} (hE : gE G s s.heap) (hk : rOK Rp) {S : gS} {a ci : Nat} {fs : List Value} (hH : hp G Rp S H) (h1 : S.1 a = some (cO ci fs)) (hci : inD d ci = true) : ∃ C : String, va_Nw (.castable C (nmD d)) s ∧ ∃ cell : Cell, H[a]? = some cell ∧ cell.vm.isStatics = false ∧ s.vm.findClass C = some cell.cls := by
  have h9 := inD_c hci
  unfold inD at hci
  unfold nmD
  by_cases h0 : d = 0
  · rw [if_pos h0]
    rcases h9 with rfl | rfl | rfl | rfl
    · exact ⟨RX18, hE.2.1.1 _ _ q3306, g_recv hE hk hH (ci := 11) (q := (RX18, TX18, 5)) rfl h1⟩
    · exact ⟨RX19, hE.2.1.1 _ _ q3303, g_recv hE hk hH (ci := 12) (q := (RX19, TX19, 5)) rfl h1⟩
    · exact ⟨RX20, hE.2.1.1 _ _ q3304, g_recv hE hk hH (ci := 13) (q := (RX20, TX20, 4)) rfl h1⟩
    · exact ⟨RX14, hE.2.1.1 _ _ q3305, g_recv hE hk hH (ci := 14) (q := (RX14, TX14, 4)) rfl h1⟩
  · rw [if_neg h0] at hci ⊢
    by_cases h2 : d = 1
    · rw [if_pos h2] at hci ⊢
      rcases h9 with rfl | rfl | rfl | rfl
      · exact ⟨RX18, hE.2.1.1 _ _ q3308, g_recv hE hk hH (ci := 11) (q := (RX18, TX18, 5)) rfl h1⟩
      · exact ⟨RX19, hE.2.1.1 _ _ q3307, g_recv hE hk hH (ci := 12) (q := (RX19, TX19, 5)) rfl h1⟩
      · exact absurd hci (by decide)
      · exact absurd hci (by decide)
    · rw [if_neg h2] at hci ⊢
      rcases h9 with rfl | rfl | rfl | rfl
      · exact absurd hci (by decide)
      · exact absurd hci (by decide)
      · exact ⟨RX20, hE.2.1.1 _ _ q3309, g_recv hE hk hH (ci := 13) (q := (RX20, TX20, 4)) rfl h1⟩
      · exact ⟨RX14, hE.2.1.1 _ _ q3310, g_recv hE hk hH (ci := 14) (q := (RX14, TX14, 4)) rfl h1⟩
theorem g_castP {own : String} {index d : Nat} {o : Option Nat} {u : Unit} {S : gS} (hx : p.tables.exec = Jvm.exec) (hb : c.code = cc) (hts : ∀ w ∈ lw_all, w.before args s = true) (hown : s.vm.findClass own = some m.cls) (hE : gE G s s.heap) (hk : rOK Rp) (hH : hp G Rp S H) (hlink : Cond.classLink own index (nmD d) ∈ lw_all) (e1 : ckP S o d = some u) (hdg : decode cc pc = .ok (.checkcast index, 3))
    (kk : W p l e R s m args below meth c H locs kc ks Q (F0 m (pc + 3) ls (va_rf o :: rest))) : W p l e R s m args below meth c H locs kc ks Q (F0 m pc ls (va_rf o :: rest)) := by
  cases o with
  | none => exact lv_castN hx hb hdg kk
  | some a =>
    obtain ⟨ci, fs, h9, h8⟩ := ckP_o e1
    obtain ⟨C, h1, h2⟩ := cause_recv hE hk hH h8 h9
    exact va_castY hx hb hown (hts _ hlink) h1 h2 hdg kk
theorem g_insC {own : String} {index : Nat} {o : Option Nat} {v : Int32} {S : gS} (hx : p.tables.exec = Jvm.exec) (hb : c.code = cc) (hts : ∀ w ∈ lw_all, w.before args s = true) (hown : s.vm.findClass own = some m.cls) (hE : gE G s s.heap) (hk : rOK Rp) (hH : hp G Rp S H) (hlink : Cond.classLink own index "CreditBroker$Cause" ∈ lw_all) (e1 : insC S o = some v) (hdg : decode cc pc = .ok (.instanceof index, 3))
    (kk : W p l e R s m args below meth c H locs kc ks Q (F0 m (pc + 3) ls (.int v :: rest))) : W p l e R s m args below meth c H locs kc ks Q (F0 m pc ls (va_rf o :: rest)) := by
  cases o with
  | none => cases e1; exact lv_instN hx hb hdg kk
  | some a =>
    simp only [insC] at e1
    split at e1
    next ci hci =>
      split at e1
      next h9 =>
        cases e1
        obtain ⟨fs, h8⟩ := clsO_o hci
        obtain ⟨C, h1, h2⟩ := cause_recv (d := 0) hE hk hH h8 h9
        exact va_instY hx hb hown (hts _ hlink) h1 h2 hdg kk
      next => cases e1
    next =>
      obtain ⟨t, ht, e2⟩ := bdo e1
      cases e2
      obtain ⟨h5, f, hf⟩ := knd_o ht
      refine va_instNo (C := arN t) hx hb hown (hts _ hlink) ?_ (arr_recv hE hk hH h5 hf) hdg kk
      have hN := hE.2.2.2.2.1
      rcases (show t = 0 ∨ t = 1 ∨ t = 2 ∨ t = 3 ∨ t = 4 by omega) with rfl | rfl | rfl | rfl | rfl
      · exact hN ("[I", "CreditBroker$Cause") (by decide +kernel)
      · exact hN ("[J", "CreditBroker$Cause") (by decide +kernel)
      · exact hN ("[B", "CreditBroker$Cause") (by decide +kernel)
      · exact hN ("[S", "CreditBroker$Cause") (by decide +kernel)
      · exact hN ("[Z", "CreditBroker$Cause") (by decide +kernel)
/-- instanceof, of arrays in the order byte, short, int, long: what comes later in it than t, or is boolean, is no t -/
theorem g_insA {own : String} {index t : Nat} {o : Option Nat} {v : Int32} {S : gS} (hx : p.tables.exec = Jvm.exec) (hb : c.code = cc) (hts : ∀ w ∈ lw_all, w.before args s = true) (hown : s.vm.findClass own = some m.cls) (hE : gE G s s.heap) (hk : rOK Rp) (hH : hp G Rp S H) (hlink : Cond.classLink own index (arN t) ∈ lw_all) (ht : t < 5) (e1 : insA S o t = some v) (hdg : decode cc pc = .ok (.instanceof index, 3))
    (kk : W p l e R s m args below meth c H locs kc ks Q (F0 m (pc + 3) ls (.int v :: rest))) : W p l e R s m args below meth c H locs kc ks Q (F0 m pc ls (va_rf o :: rest)) := by
  cases o with
  | none => cases e1; exact lv_instN hx hb hdg kk
  | some a =>
    obtain ⟨k, hkn, e2⟩ := bdo e1
    obtain ⟨h5, f, hf⟩ := knd_o hkn
    by_cases hkt : k = t
    · subst hkt
      rw [if_pos rfl] at e2
      cases e2
      exact va_instE hx hb hown (hts _ hlink) (arr_recv hE hk hH h5 hf) hdg kk
    · rw [if_neg hkt] at e2
      split at e2
      next h9 =>
        cases e2
        exact va_instNo (C := arN k) hx hb hown (hts _ hlink) (hE.2.2.2.2.1 _ (ordA_nc ht h5 h9)) (arr_recv hE hk hH h5 hf) hdg kk
      next => cases e2
theorem g_castA {own : String} {index t : Nat} {o : Option Nat} {u : Unit} {S : gS} (hx : p.tables.exec = Jvm.exec) (hb : c.code = cc) (hts : ∀ w ∈ lw_all, w.before args s = true) (hown : s.vm.findClass own = some m.cls) (hE : gE G s s.heap) (hk : rOK Rp) (hH : hp G Rp S H) (hlink : Cond.classLink own index (arN t) ∈ lw_all) (e1 : ckA S o t = some u) (hdg : decode cc pc = .ok (.checkcast index, 3))
    (kk : W p l e R s m args below meth c H locs kc ks Q (F0 m (pc + 3) ls (va_rf o :: rest))) : W p l e R s m args below meth c H locs kc ks Q (F0 m pc ls (va_rf o :: rest)) := by
  cases o with
  | none => exact lv_castN hx hb hdg kk
  | some a =>
    obtain ⟨k, hkn, e2⟩ := bdo e1
    obtain ⟨h5, f, hf⟩ := knd_o hkn
    split at e2
    next hkt =>
      subst hkt
      obtain ⟨cell, g1, g2, g3⟩ := arr_recv hE hk hH h5 hf
      intro T hT X
      obtain ⟨vm', X', st⟩ := X.checkcastYes hx hown (hts _ hlink) (by rw [hT]; exact g1) g2 g3 (va_asg _ _) (g := F0 m pc ls (.ref a :: rest)) rfl rfl (by rw [hb]; exact hdg)
      obtain ⟨t, a1, b1⟩ := kk (T.setVm vm') hT X'
      exact ⟨t, st t a1, b1⟩
    next => cases e2
theorem g_zast {o : Option Nat} {a : Nat} {i x : Int32} {S S' : gS} (hx : p.tables.exec = Jvm.exec) (hb : c.code = cc) (hE : gE G s s.heap) (hk : rOK Rp) (hH : hp G Rp S H) (hS : va_S G.2.2.2 s.heap H locs) (eo : o = some a) (e1 : wrAz S a i x = some S') (hdg : decode cc pc = .ok (.bastore, 1))
    (kk : ∀ (H1 : Heap) (locs1 : List Loc), hp G Rp S' H1 → va_S G.2.2.2 s.heap H1 locs1 → W p l e R s m args below meth c H1 locs1 kc ks Q (F0 m (pc + 1) ls rest)) : W p l e R s m args below meth c H locs kc ks Q (F0 m pc ls (.int x :: .int i :: va_rf o :: rest)) := by
  subst eo
  obtain ⟨n, f, e2, e3, e4, rfl⟩ := wrAz_o e1
  obtain ⟨ws, j, hP, hD, hi, hback⟩ := hp_ws hk hH e2 rfl
  have hxx : vp_nar .boolean x = x := by rcases e4 with rfl | rfl <;> decide
  refine W.zast hx hb (hP j _ hi) ((hE.1.2 4 _ rfl).1 n (fun j => .int (f j))) (fun q => by cases q) (by show ¬ (i < 0 ∨ (arrV _ _ _).slots.size ≤ _); rw [arrV_size]; exact e3) rfl rfl hdg fun H1 y1 z oq => ?_
  refine kk H1 _ (hback _ _ H1 rfl z (hP.set hD hi ?_ oq) (hD.set hi) rfl) (hS.put z oq (hD.2 j _ hi))
  show H1[a]? = some (vp_cell _ _)
  rw [y1, vp_cell_i, vp_cell_i, arrV_store]
  congr 2
  funext q
  by_cases hq : q = i.toNatClampNeg
  · subst hq
    rcases e4 with rfl | rfl <;> simp [updV, upd] <;> rfl
  · simp [updV, upd, hq]
theorem g_bast {o : Option Nat} {a : Nat} {i x : Int32} {S S' : gS} (hx : p.tables.exec = Jvm.exec) (hb : c.code = cc) (hE : gE G s s.heap) (hk : rOK Rp) (hH : hp G Rp S H) (hS : va_S G.2.2.2 s.heap H locs) (eo : o = some a) (e1 : wrAn S a 2 i x = some S') (hdg : decode cc pc = .ok (.bastore, 1))
    (kk : ∀ (H1 : Heap) (locs1 : List Loc), hp G Rp S' H1 → va_S G.2.2.2 s.heap H1 locs1 → W p l e R s m args below meth c H1 locs1 kc ks Q (F0 m (pc + 1) ls rest)) : W p l e R s m args below meth c H locs kc ks Q (F0 m pc ls (.int x :: .int i :: va_rf o :: rest)) := by
  subst eo
  obtain ⟨n, f, e2, e3, rfl⟩ := wrAn_o e1
  obtain ⟨ws, j, hP, hD, hi, hback⟩ := hp_ws hk hH e2 rfl
  refine W.bast hx hb (hP j _ hi) ((hE.1.2 2 _ rfl).1 n (fun j => .int (f j))) (fun q => by cases q) (by show ¬ (i < 0 ∨ (arrV _ _ _).slots.size ≤ _); rw [arrV_size]; exact e3) rfl rfl hdg fun H1 y1 z oq => ?_
  refine kk H1 _ (hback _ _ H1 rfl z (hP.set hD hi ?_ oq) (hD.set hi) rfl) (hS.put z oq (hD.2 j _ hi))
  show H1[a]? = some (vp_cell _ _)
  rw [y1, vp_cell_i, vp_cell_i, arrV_store]
  congr 2
  funext q
  by_cases hq : q = i.toNatClampNeg
  · subst hq
    simp [updV, upd, vp_nar, narK]
    try rfl
  · simp [updV, upd, hq]
theorem g_sast {o : Option Nat} {a : Nat} {i x : Int32} {S S' : gS} (hx : p.tables.exec = Jvm.exec) (hb : c.code = cc) (hE : gE G s s.heap) (hk : rOK Rp) (hH : hp G Rp S H) (hS : va_S G.2.2.2 s.heap H locs) (eo : o = some a) (e1 : wrAn S a 3 i x = some S') (hdg : decode cc pc = .ok (.sastore, 1))
    (kk : ∀ (H1 : Heap) (locs1 : List Loc), hp G Rp S' H1 → va_S G.2.2.2 s.heap H1 locs1 → W p l e R s m args below meth c H1 locs1 kc ks Q (F0 m (pc + 1) ls rest)) : W p l e R s m args below meth c H locs kc ks Q (F0 m pc ls (.int x :: .int i :: va_rf o :: rest)) := by
  subst eo
  obtain ⟨n, f, e2, e3, rfl⟩ := wrAn_o e1
  obtain ⟨ws, j, hP, hD, hi, hback⟩ := hp_ws hk hH e2 rfl
  refine W.sast hx hb (hP j _ hi) ((hE.1.2 3 _ rfl).1 n (fun j => .int (f j))) (fun q => by cases q) (by show ¬ (i < 0 ∨ (arrV _ _ _).slots.size ≤ _); rw [arrV_size]; exact e3) rfl rfl hdg fun H1 y1 z oq => ?_
  refine kk H1 _ (hback _ _ H1 rfl z (hP.set hD hi ?_ oq) (hD.set hi) rfl) (hS.put z oq (hD.2 j _ hi))
  show H1[a]? = some (vp_cell _ _)
  rw [y1, vp_cell_i, vp_cell_i, arrV_store]
  congr 2
  funext q
  by_cases hq : q = i.toNatClampNeg
  · subst hq
    simp [updV, upd, vp_nar, narK]
    try rfl
  · simp [updV, upd, hq]
theorem g_newqo {own C : String} {t t0 index : Nat} {i : Int32} {S S1 : gS} (hx : p.tables.exec = Jvm.exec) (hb : c.code = cc) (hts : ∀ w ∈ lw_all, w.before args s = true) (hown : s.vm.findClass own = some m.cls) (hE : gE G s s.heap) (hA : ∀ q : Nat, s.heap.size ≤ q → G.2.2.2 q) (hk : rOK Rp) (hH : hp G Rp S H) (hS : va_S G.2.2.2 s.heap H locs) (hcl : Cond.classLink own index C ∈ lw_all) (hover : Cond.arrayOver (.object C) ∈ lw_tbl) (ht : (gTy G.2.1)[t0]? = some (G.2.1 t, .object C)) (hn : ¬ i < 0) (hi : i.toNatClampNeg ≤ 100000) (e1 : S1 = mk S (cAq t i.toNatClampNeg (fun _ => none))) (hcells : kc + 1 ≤ R.cells) (hslots : ks + i.toNatClampNeg ≤ R.slots) (hdg : decode cc pc = .ok (.anewarray index, 3))
    (kk : ∀ (H1 : Heap), hp G Rp S1 H1 → va_S G.2.2.2 s.heap H1 locs → W p l e R s m args below meth c H1 locs (kc + 1) (ks + i.toNatClampNeg) Q (F0 m (pc + 3) ls (.ref S.2 :: rest))) : W p l e R s m args below meth c H locs kc ks Q (F0 m pc ls (.int i :: rest)) := g_newq hx hb hts hown hE hA hk hH hS hcl hover ht hn hi e1 hcells hslots hdg kk
/-- super.m(..) -/
theorem g_callSU {y : MethodName} {own nm : String} {q : vw_C} {bytes : ByteArray} {maxL nL fr lo fr' lo' n index C9 N mc ms b ci : Nat} {o : Option Nat} {ret ret' : Option FieldType} {As st0 st1 : List Value} {v : Option Value} {S S2 : gS} {fs : List Value} (hc : gC p s m args meth c G own nm cc nL ret') (hk : rOK Rp) (hM : gMet l y bytes maxL ret fr' lo' G Rp (.ref b :: As) S v S2 C9 N) (cw : va_CS (gR fr lo mc ms) s args own index y bytes maxL ret (ws_ y bytes maxL ret) (gR fr' lo' C9 N) C9 N n) (hq : gCl[ci]? = some q) (hcell : S.1 b = some (cO ci fs)) (eo : o = some b) (hn : As.length = n) (hsize : ls.size = nL) (hst0 : st0 = As.reverse ++ va_rf o :: rest) (hst : v.toList ++ rest = st1) (hW : 2 * (F0 m pc ls st0).monitorRoom + (rest.map fun v => v.category).sum ≤ 8) (hdg : decode cc pc = .ok (.invokespecial index, 3)) (hH : hp G Rp S H) (hS : va_S G.2.2.2 s.heap H locs) (hkc : kc + C9 ≤ mc) (hks : ks + N ≤ ms)
    (kk : ∀ (H1 : Heap) (locs1 : List Loc), hp G Rp S2 H1 → va_S G.2.2.2 s.heap H1 locs1 → W p l e (gR fr lo mc ms) s m args below meth c H1 locs1 (kc + C9) (ks + N) Q (F0 m (pc + 3) ls st1)) : W p l e (gR fr lo mc ms) s m args below meth c H locs kc ks Q (F0 m pc ls st0) := by
  subst eo
  obtain ⟨hx, hb, hr, hlk, hml, hown, hts, hE, hA, hnm⟩ := hc
  exact g_call (va_runSU (As := As) (rest := rest) (hE.1.1 ci q hq).2 ⟨hx, hb, hml, hown, hts⟩ hM cw ⟨g_blind, g_recv hE hk hH hq hcell, g_pre hE hA hH hS⟩ rfl hn hsize hst0 hW hdg ⟨hkc, hks⟩) hS hst kk
end
