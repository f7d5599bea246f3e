/-! System.arraycopy that throws, at the heap state -/
set_option maxRecDepth 100000
set_option maxHeartbeats 4000000
set_option linter.unusedVariables false
abbrev acTy (t : Nat) : FieldType := ((gTy (fun _ => 0)).getD t (0, .int)).2
/-- an array's kind and length -/
def arK (S : gS) (a : Nat) : Option (Nat × Nat) := match S.1 a with
  | some (.inr (.inl (t, n, .inl _))) => if t ≠ 1 ∧ t < 5 ∧ n < 2 ^ 31 then some (t, n) else none
  | some (.inr (.inl (t, n, .inr (.inl _)))) => if t = 1 ∧ n < 2 ^ 31 then some (t, n) else none
  | _ => none
abbrev acBad (n0 n1 : Nat) (sp dp n : Int32) : Prop := sp < 0 ∨ dp < 0 ∨ n < 0 ∨ n0 < sp.toNatClampNeg + n.toNatClampNeg ∨ n1 < dp.toNatClampNeg + n.toNatClampNeg
abbrev acSh (t n : Nat) : String := toString (Native.java_lang_System.arraycopy.kindName (acTy t)) ++ toString "[" ++ toString n ++ toString "]"
def cpyL (S : gS) (a0 : Nat) (sp : Int32) (a1 : Nat) (dp n : Int32) : Option gS := match S.1 a0, S.1 a1 with
  | some (.inr (.inl (t0, n0, .inr (.inl f)))), some (.inr (.inl (t1, n1, .inr (.inl g)))) =>
    if t0 = 1 ∧ t1 = 1 ∧ ¬ sp < 0 ∧ ¬ dp < 0 ∧ ¬ n < 0 ∧ sp.toNatClampNeg + n.toNatClampNeg ≤ n0 ∧ dp.toNatClampNeg + n.toNatClampNeg ≤ n1 then some (gup S.1 a1 (cAl 1 n1 (va_cpy f g sp.toNatClampNeg dp.toNatClampNeg n.toNatClampNeg)), S.2) else none
  | _, _ => none
/-- System.arraycopy between arrays of ints and longs: 0 done, 1 null, 2 other kinds, 3 out of bounds -/
def cpyX (S : gS) (o0 : Option Nat) (sp : Int32) (o : Option Nat) (dp n : Int32) : Option (Nat × gS) := match o0, o with
  | some a0, some a => match arK S a0, arK S a with
    | some q0, some q1 => if q0.1 ≠ q1.1 then some (2, S) else if acBad q0.2 q1.2 sp dp n then some (3, S) else
      match (if q0.1 = 1 then cpyL S a0 sp a dp n else cpyB S q0.1 a0 sp a dp n) with
      | some S' => some (0, S')
      | none => none
    | _, _ => none
  | _, _ => some (1, S)
theorem ac_ind {S : gS} {o0 o : Option Nat} {sp dp n : Int32} {r : Nat × gS} (h : cpyX S o0 sp o dp n = some r) :
    (r.1 = 1 ∧ (o0 = none ∨ o = none)) ∨ ∃ a0 a t0 n0 t1 n1, o0 = some a0 ∧ o = some a ∧ arK S a0 = some (t0, n0) ∧ arK S a = some (t1, n1) ∧ ((r.1 = 2 ∧ t0 ≠ t1) ∨ (t0 = t1 ∧ r.1 = 3 ∧ acBad n0 n1 sp dp n) ∨ (t0 = t1 ∧ r.1 = 0 ∧ (if t0 = 1 then cpyL S a0 sp a dp n else cpyB S t0 a0 sp a dp n) = some r.2)) := by
  unfold cpyX at h
  split at h
  next a0 a =>
    split at h
    next q0 q1 h0 h1 =>
      obtain ⟨t0, n0⟩ := q0
      obtain ⟨t1, n1⟩ := q1
      refine Or.inr ⟨a0, a, t0, n0, t1, n1, rfl, rfl, h0, h1, ?_⟩
      split at h
      next e => cases h; exact Or.inl ⟨rfl, e⟩
      next e =>
        have e' : t0 = t1 := Decidable.not_not.mp e
        split at h
        next e2 => cases h; exact Or.inr (Or.inl ⟨e', rfl, e2⟩)
        next e2 =>
          split at h
          next S' h9 => cases h; exact Or.inr (Or.inr ⟨e', rfl, h9⟩)
          next => cases h
    next => cases h
  next h0 =>
    cases h
    refine Or.inl ⟨rfl, ?_⟩
    cases o0 with
    | none => exact Or.inl rfl
    | some a0 =>
      cases o with
      | none => exact Or.inr rfl
      | some a => exact absurd rfl (h0 a0 a rfl)
theorem ac_kind (t : Nat) (h : t < 5) : Native.java_lang_System.arraycopy.kindName (acTy t) = ["int", "long", "byte", "short", "boolean"].getD t "" ∧ refKind (acTy t) = false := by
  rcases (show t = 0 ∨ t = 1 ∨ t = 2 ∨ t = 3 ∨ t = 4 by omega) with rfl | rfl | rfl | rfl | rfl <;> exact ⟨rfl, rfl⟩
theorem ac_klen (t : Nat) (h : t < 5) : (Native.java_lang_System.arraycopy.kindName (acTy t)).toList.length ≤ 7 := by
  rw [(ac_kind t h).1]
  rcases (show t = 0 ∨ t = 1 ∨ t = 2 ∨ t = 3 ∨ t = 4 by omega) with rfl | rfl | rfl | rfl | rfl <;> decide
theorem ac_ty {t0 t1 : Nat} (h0 : t0 < 5) (h1 : t1 < 5) : ((refKind (acTy t0) != refKind (acTy t1)) || (!refKind (acTy t0) && acTy t0 != acTy t1)) = decide (t0 ≠ t1) := by
  rcases (show t0 = 0 ∨ t0 = 1 ∨ t0 = 2 ∨ t0 = 3 ∨ t0 = 4 by omega) with rfl | rfl | rfl | rfl | rfl <;> rcases (show t1 = 0 ∨ t1 = 1 ∨ t1 = 2 ∨ t1 = 3 ∨ t1 = 4 by omega) with rfl | rfl | rfl | rfl | rfl <;> decide
theorem ac_text {tx : String} {n : Nat} {r : List Char} (h : tx.toList = 'a' :: r) (hn : r.length ≤ n) : (tx == notModelled) = false ∧ (stringBytes (stringToUtf16 tx)).size ≤ 4 * (n + 1) := by
  refine ⟨?_, ?_⟩
  · rw [beq_eq_false_iff_ne]
    intro h1
    have h2 := congrArg String.toList h1
    have h4 : notModelled.toList = '\u0000' :: " a message that is not modelled".toList := by decide
    rw [h, h4] at h2
    simp at h2
  · have b1 := stringBytes_size_le (stringToUtf16 tx)
    have b2 := utf16_size_le tx
    rw [h, List.length_cons] at b2
    omega
theorem int_print {i : Int} (h1 : i < 10 ^ 10) (h2 : -(10 ^ 10) < i) : (toString i).toList.length ≤ 11 := by
  show (Int.repr i).toList.length ≤ 11
  cases h : i with
  | ofNat m =>
    rw [h] at h1
    have h1' : (m : Int) < 10 ^ 10 := h1
    have := nat_print (n := m) (by omega)
    show (toString m).toList.length ≤ 11
    omega
  | negSucc m =>
    rw [h] at h2
    have h2' : -(10 : Int) ^ 10 < -((m : Int) + 1) := by simpa [Int.negSucc_eq] using h2
    have := nat_print (n := m.succ) (by omega)
    show ("-" ++ toString m.succ).toList.length ≤ 11
    rw [String.toList_append, List.length_append]
    have h0 : "-".toList.length = 1 := by decide
    omega
theorem ac_t1 {t0 t1 : Nat} (h0 : t0 < 5) (h1 : t1 < 5) : ∃ r : List Char, (toString "arraycopy: type mismatch: can not copy " ++ toString (Native.java_lang_System.arraycopy.kindName (acTy t0)) ++ toString "[] into " ++ toString (Native.java_lang_System.arraycopy.kindName (acTy t1)) ++ toString "[]" : String).toList = 'a' :: r ∧ r.length ≤ 99 := by
  refine ⟨("rraycopy: type mismatch: can not copy ".toList ++ (Native.java_lang_System.arraycopy.kindName (acTy t0)).toList ++ "[] into ".toList ++ (Native.java_lang_System.arraycopy.kindName (acTy t1)).toList ++ "[]".toList), ?_, ?_⟩
  · show (toString "arraycopy: type mismatch: can not copy " ++ toString (Native.java_lang_System.arraycopy.kindName (acTy t0)) ++ toString "[] into " ++ toString (Native.java_lang_System.arraycopy.kindName (acTy t1)) ++ toString "[]").toList = _
    simp only [String.toList_append]
    rfl
  · have a0 := ac_klen t0 h0
    have a1 := ac_klen t1 h1
    have b0 : ("rraycopy: type mismatch: can not copy ".toList).length = 38 := by decide
    have b1 : ("[] into ".toList).length = 8 := by decide
    have b2 : ("[]".toList).length = 2 := by decide
    simp only [List.length_append]
    omega
theorem ac_t2 (w : String) (n : Nat) (h : w.toList.length ≤ n) : ∃ r : List Char, ("arraycopy: " ++ w).toList = 'a' :: r ∧ r.length ≤ n + 10 := by
  refine ⟨"rraycopy: ".toList ++ w.toList, ?_, ?_⟩
  · rw [String.toList_append]
    rfl
  · have b0 : ("rraycopy: ".toList).length = 10 := by decide
    rw [List.length_append]
    omega
theorem ac_sh {t n : Nat} (ht : t < 5) (hn : n < 2 ^ 31) : (acSh t n).toList.length ≤ 19 := by
  show (toString (Native.java_lang_System.arraycopy.kindName (acTy t)) ++ toString "[" ++ toString n ++ toString "]").toList.length ≤ 19
  have a0 : (toString (Native.java_lang_System.arraycopy.kindName (acTy t))).toList.length ≤ 7 := ac_klen t ht
  have a1 := nat_print (n := n) (by omega)
  have b0 : (toString "[").toList.length = 1 := by decide
  have b1 : (toString "]").toList.length = 1 := by decide
  simp only [String.toList_append, List.length_append]
  omega
theorem ac_fault {t n0 n1 : Nat} {sp dp n : Int32} (ht : t < 5) (h0 : n0 < 2 ^ 31) (h1 : n1 < 2 ^ 31) (h : acBad n0 n1 sp dp n) : ∃ what : String, copyFault (acTy t) (acTy t) n0 n1 sp dp n = some what ∧ what.toList.length ≤ 90 := by
  have s0 := ac_sh ht h0
  have s1 := ac_sh ht h1
  have i0 := int32_print sp
  have i1 := int32_print dp
  have i2 := int32_print n
  have c1 : (toString "source index ").toList.length = 13 := by decide
  have c2 : (toString "destination index ").toList.length = 18 := by decide
  have c3 : (toString " out of bounds for ").toList.length = 19 := by decide
  have c4 : (toString "length ").toList.length = 7 := by decide
  have c5 : (toString " is negative").toList.length = 12 := by decide
  have c6 : (toString "last source index ").toList.length = 18 := by decide
  have c7 : (toString "last destination index ").toList.length = 23 := by decide
  unfold copyFault
  by_cases k1 : sp < 0
  · rw [if_pos k1]
    refine ⟨_, rfl, ?_⟩
    show (toString "source index " ++ toString sp ++ toString " out of bounds for " ++ toString (acSh t n0)).toList.length ≤ 90
    have s0' : (toString (acSh t n0)).toList.length ≤ 19 := s0
    simp only [String.toList_append, List.length_append]
    omega
  · rw [if_neg k1]
    by_cases k2 : dp < 0
    · rw [if_pos k2]
      refine ⟨_, rfl, ?_⟩
      show (toString "destination index " ++ toString dp ++ toString " out of bounds for " ++ toString (acSh t n1)).toList.length ≤ 90
      have s1' : (toString (acSh t n1)).toList.length ≤ 19 := s1
      simp only [String.toList_append, List.length_append]
      omega
    · rw [if_neg k2]
      by_cases k3 : n < 0
      · rw [if_pos k3]
        refine ⟨_, rfl, ?_⟩
        show (toString "length " ++ toString n ++ toString " is negative").toList.length ≤ 90
        simp only [String.toList_append, List.length_append]
        omega
      · rw [if_neg k3]
        have e1 := gi_nn k1
        have e2 := gi_nn k2
        have e3 := gi_nn k3
        have u1 := Int32.toInt_lt sp
        have u2 := Int32.toInt_lt dp
        have u3 := Int32.toInt_lt n
        by_cases k4 : sp.toInt + n.toInt > n0
        · rw [if_pos k4]
          refine ⟨_, rfl, ?_⟩
          show (toString "last source index " ++ toString (sp.toInt + n.toInt) ++ toString " out of bounds for " ++ toString (acSh t n0)).toList.length ≤ 90
          have s0' : (toString (acSh t n0)).toList.length ≤ 19 := s0
          have i9 := int_print (i := sp.toInt + n.toInt) (by omega) (by omega)
          simp only [String.toList_append, List.length_append]
          omega
        · rw [if_neg k4]
          by_cases k5 : dp.toInt + n.toInt > n1
          · rw [if_pos k5]
            refine ⟨_, rfl, ?_⟩
            show (toString "last destination index " ++ toString (dp.toInt + n.toInt) ++ toString " out of bounds for " ++ toString (acSh t n1)).toList.length ≤ 90
            have s1' : (toString (acSh t n1)).toList.length ≤ 19 := s1
            have i9 := int_print (i := dp.toInt + n.toInt) (by omega) (by omega)
            simp only [String.toList_append, List.length_append]
            omega
          · exfalso
            rcases h with h | h | h | h | h
            · exact k1 h
            · exact k2 h
            · exact k3 h
            · omega
            · omega
section
variable {p : Program} {l : Launch} {e : Env} {s : State} {m : MethodId} {args : Array Value} {below : List Frame} {meth : Method} {c : Code} {G : gG} {Rp : gM → gM → Nat → Prop} {R : Room} {H : Heap} {locs : List Loc} {Q : State → Prop} {cc : ByteArray} {ls : Array Slot} {rest : List Value} {pc : Nat} {kc ks : Nat}
theorem ac_arr (hk : rOK Rp) (hE : gE G s s.heap) {S : gS} {a t n : Nat} (hH : hp G Rp S H) (e1 : arK S a = some (t, n)) : ∃ (cell : Cell) (k : Class) (m0 : ClassId), H[a]? = some cell ∧ ((∀ k, cell.vm ≠ .statics k) ∧ cell.vm ≠ .unknown) ∧ s.vm.classes[cell.cls]? = some k ∧ k.kind = .array m0 (acTy t) ∧ cell.slots.size = n ∧ t < 5 ∧ n < 2 ^ 31 := by
  unfold arK at e1
  split at e1
  next t0 n0 f hq =>
    split at e1
    next hc =>
      cases e1
      obtain ⟨h1, h2, h3⟩ := hc
      obtain ⟨x, hx, hP⟩ := hp_arr hk hH hq
      cases hx
      have key : ∀ ty : FieldType, (gTy G.2.1)[t]? = some (G.2.1 t, ty) → acTy t = ty → ∃ (cell : Cell) (k : Class) (m0 : ClassId), H[a]? = some cell ∧ ((∀ k, cell.vm ≠ .statics k) ∧ cell.vm ≠ .unknown) ∧ s.vm.classes[cell.cls]? = some k ∧ k.kind = .array m0 (acTy t) ∧ cell.slots.size = n ∧ t < 5 ∧ n < 2 ^ 31 := by
        intro ty hty hty2
        obtain ⟨-, k0, hk0, cm0, hkk0⟩ := (hE.1.2 t _ hty).1 n (fun j => .int (f j))
        exact ⟨vp_cell (G.2.1 t) (n, .inl f), k0, cm0, hP 0 _ rfl, vpc_vm _ _, hk0, by rw [hty2]; exact hkk0, arrV_size _ _ _, h2, h3⟩
      rcases (show t = 0 ∨ t = 1 ∨ t = 2 ∨ t = 3 ∨ t = 4 by omega) with rfl | rfl | rfl | rfl | rfl
      · exact key .int rfl rfl
      · exact key .long rfl rfl
      · exact key .byte rfl rfl
      · exact key .short rfl rfl
      · exact key .boolean rfl rfl
    next => cases e1
  next t0 n0 f hq =>
    split at e1
    next hc =>
      cases e1
      obtain ⟨rfl, h3⟩ := hc
      obtain ⟨x, hx, hP⟩ := hp_arr hk hH hq
      cases hx
      obtain ⟨-, k0, hk0, cm0, hkk0⟩ := (hE.1.2 1 (G.2.1 1, .long) rfl).1 n (fun j => .long (f j))
      exact ⟨vp_cell (G.2.1 1) (n, .inr (.inl f)), k0, cm0, hP 0 _ rfl, vpc_vm _ _, hk0, hkk0, arrV_size _ _ _, by omega, h3⟩
    next => cases e1
  next => cases e1
theorem g_cpyL {own : String} {index a0 a : Nat} {o0 o : Option Nat} {sp dp n : Int32} {S S' : gS} (hx : p.tables.exec = Jvm.exec) (hb : c.code = cc) (hml : c.maxLocals = ls.size) (hts : ∀ w ∈ lw_all, w.before args s = true) (hown : s.vm.findClass own = some m.cls) (hE : gE G s s.heap) (hk : rOK Rp) (hH : hp G Rp S H) (hS : va_S G.2.2.2 s.heap H locs) (hlink : Cond.methodLink own index acN ∈ lw_all) (hnat : Cond.native acN ∈ lw_all) (hstat : Cond.static acN ∈ lw_all) (hini : Cond.initialized "java/lang/System" ∈ lw_all) (eo0 : o0 = some a0) (eo : o = some a) (e1 : cpyL S a0 sp a dp n = some S') (hfr : 1 ≤ R.frames) (hlo : (rest.map fun v => v.category).sum + 40 ≤ R.locals) (hdg : decode cc pc = .ok (.invokestatic index, 3))
    (kk : ∀ (H1 : Heap) (locs1 : List Loc), hp G Rp S' H1 → va_S G.2.2.2 s.heap H1 locs1 → W p l e R s m args below meth c H1 locs1 kc ks Q (F0 m (pc + 3) ls rest)) : W p l e R s m args below meth c H locs kc ks Q (F0 m pc ls (.int n :: .int dp :: va_rf o :: .int sp :: va_rf o0 :: rest)) := by
  subst eo
  subst eo0
  unfold cpyL at e1
  split at e1
  next t0 n0 f t1 n1 g q0 q1 =>
    split at e1
    next hq =>
      obtain ⟨rfl, rfl, h1, h2, h3, h4, h5⟩ := hq
      cases e1
      obtain ⟨ws, i, hP, hD, hi, hoth, hback⟩ := hp_ws2 hk hH q1 rfl
      obtain ⟨j, hj⟩ := hoth a0 _ _ q0 rfl
      obtain ⟨-, k0, hk0, cm0, hkk0⟩ := (hE.1.2 1 (G.2.1 1, .long) rfl).1 n0 (fun j => .long (f j))
      refine g_acpy hx hb hml hown hts hlink hnat hstat hini (hP j _ hj) (hP i _ hi) (vpc_vm _ _) (vpc_vm _ _) hk0 hk0 hkk0 hkk0 (by simp) h1 h2 h3 (by show _ ≤ (arrV _ _ _).slots.size; rw [arrV_size]; exact h4) (by show _ ≤ (arrV _ _ _).slots.size; rw [arrV_size]; exact h5) ?_ hfr hlo hdg ?_
      · intro T vm' hT hal z hz
        have ev : (vp_cell (G.2.1 1) (n0, .inr (.inl f))).slots.getD (sp.toNatClampNeg + z) .null = .long (f (sp.toNatClampNeg + z)) := by
          show (arrV (G.2.1 1) n0 (fun j => .long (f j))).slots.getD _ _ = _
          rw [Array.getD_eq_getD_getElem?, arrV_read _ _ (by omega)]
          rfl
        rw [ev]
        exact ⟨rfl, trivial⟩
      · intro H1 L y1 z oq hL
        refine kk H1 _ (hback _ _ H1 rfl z (hP.set hD hi ?_ oq) (hD.set hi) rfl) (hS_put hS hD hi z oq hL)
        show H1[a]? = some (vp_cell _ _)
        rw [y1]
        exact congrArg some (va_copied (fun z => .long z) (G.2.1 1) (G.2.1 1) f g h4)
    next => cases e1
  next => cases e1
theorem g_ac0 {own : String} {index : Nat} {o0 o : Option Nat} {sp dp n : Int32} {S : gS} {r : Nat × gS} (hx : p.tables.exec = Jvm.exec) (hb : c.code = cc) (hml : c.maxLocals = ls.size) (hts : ∀ w ∈ lw_all, w.before args s = true) (hown : s.vm.findClass own = some m.cls) (hE : gE G s s.heap) (hk : rOK Rp) (hH : hp G Rp S H) (hS : va_S G.2.2.2 s.heap H locs) (hlink : Cond.methodLink own index acN ∈ lw_all) (hnat : Cond.native acN ∈ lw_all) (hstat : Cond.static acN ∈ lw_all) (hini : Cond.initialized "java/lang/System" ∈ lw_all) (e1 : cpyX S o0 sp o dp n = some r) (hr : r.1 = 0) (hfr : 1 ≤ R.frames) (hlo : (rest.map fun v => v.category).sum + 40 ≤ R.locals) (hdg : decode cc pc = .ok (.invokestatic index, 3))
    (kk : ∀ (H1 : Heap) (locs1 : List Loc), hp G Rp r.2 H1 → va_S G.2.2.2 s.heap H1 locs1 → W p l e R s m args below meth c H1 locs1 kc ks Q (F0 m (pc + 3) ls rest)) : W p l e R s m args below meth c H locs kc ks Q (F0 m pc ls (.int n :: .int dp :: va_rf o :: .int sp :: va_rf o0 :: rest)) := by
  rcases ac_ind e1 with ⟨h1, -⟩ | ⟨a0, a, t0, n0, t1, n1, eo0, eo, k0, k1, ⟨h1, -⟩ | ⟨-, h1, -⟩ | ⟨-, -, h1⟩⟩
  · omega
  · omega
  · omega
  · split at h1
    · exact g_cpyL hx hb hml hts hown hE hk hH hS hlink hnat hstat hini eo0 eo h1 hfr hlo hdg kk
    · exact g_cpyB hx hb hml hts hown hE hk hH hS hlink hnat hstat hini eo0 eo h1 hfr hlo hdg kk
abbrev acK (p : Program) (l : Launch) (e : Env) (G : gG) (Rp : gM → gM → Nat → Prop) (R : Room) (s : State) (m : MethodId) (args : Array Value) (below : List Frame) (meth : Method) (c : Code) (locs : List Loc) (kc ks : Nat) (Q : State → Prop) (pc : Nat) (ls : Array Slot) (rest : List Value) (S : gS) (E : String) : Prop :=
  ∀ (H1 : Heap) (q9 : Nat) (ce : Cell) (nz : Nat), S.2 ≤ nz → hp G Rp (S.1, nz) H1 → va_S G.2.2.2 s.heap H1 locs → H1[q9]? = some ce → ce.vm = .none → s.vm.findClass E = some ce.cls → vx_W p l e R s m args below meth c H1 locs (kc + 3) (ks + 1010) Q (F0 m pc ls rest) q9
theorem ac_zq {G : gG} {C n d : String} {o : Option Nat} {U : State} {H : Heap} (h : va_Z C n d (va_rf o) G.2.2.2 U H) : va_Zq C n d G.2.2.2 U H := by
  cases o with
  | none => exact Or.inl h
  | some t => exact Or.inr ⟨t, h⟩
theorem ac_kk {S : gS} {E : String} {c2 n2 : Nat} (hk : rOK Rp) (hH : hp G Rp S H) (hS : va_S G.2.2.2 s.heap H locs) (h1 : c2 ≤ kc + 3) (h2 : n2 ≤ ks + 1010) (kk : acK p l e G Rp R s m args below meth c locs kc ks Q pc ls rest S E) :
    ∀ (H1 : Heap) (q9 : Addr) (ce : Cell), H.size ≤ H1.size → (∀ q : Nat, q < H.size → H1[q]? = H[q]?) → H1[q9]? = some ce → ce.vm = .none → s.vm.findClass E = some ce.cls → vx_W p l e R s m args below meth c H1 locs c2 n2 Q (F0 m pc ls rest) q9 := by
  intro H1 q9 ce g1 g2 g3 g4 g5
  obtain ⟨k1, k2⟩ := hp_later hk hH g1 g2
  exact vx_widen h1 h2 (kk H1 q9 ce H1.size k1 k2 ⟨Nat.le_trans hS.1 g1, fun q y1 y2 => (g2 q (Nat.lt_of_lt_of_le y1 hS.1)).trans (hS.2.1 q y1 y2), hS.2.2⟩ g3 g4 g5)
theorem g_acN {own nm : String} {index nL fr lo mc ms : Nat} {ret' : Option FieldType} {o0 o : Option Nat} {sp dp n : Int32} {S : gS} {r : Nat × gS} (hc : gC p s m args meth c G own nm cc nL ret') (hst : l.stackTraces = false) (hml : c.maxLocals = ls.size) (hk : rOK Rp) (hH : hp G Rp S H) (hS : va_S G.2.2.2 s.heap H locs) (hlink : Cond.methodLink own index acN ∈ lw_all) (hnat : Cond.native acN ∈ lw_all) (hstat : Cond.static acN ∈ lw_all) (hini : Cond.initialized "java/lang/System" ∈ lw_all) (e1 : cpyX S o0 sp o dp n = some r) (hr : r.1 = 1) (hfr : 8 < fr) (hlo : (rest.map fun v => v.category).sum + 10240 ≤ lo) (hkc : kc + 3 ≤ mc) (hks : ks + 1010 ≤ ms) (hdg : decode cc pc = .ok (.invokestatic index, 3))
    (kk : acK p l e G Rp (gR fr lo mc ms) s m args below meth c locs kc ks Q pc ls rest S "java/lang/NullPointerException") : W p l e (gR fr lo mc ms) s m args below meth c H locs kc ks Q (F0 m pc ls (.int n :: .int dp :: va_rf o :: .int sp :: va_rf o0 :: rest)) := by
  obtain ⟨hx, hb, hrt, hlk, hml', hown, hts, hE, hA, hnm⟩ := hc
  obtain ⟨g1, g2, g3, g4⟩ := hE.2.2.2.2.2.2.2.2.2.1
  have hnull : o0 = none ∨ o = none := by
    rcases ac_ind e1 with ⟨-, h1⟩ | ⟨a0, a, t0, n0, t1, n1, eo0, eo, k0, k1, ⟨h1, -⟩ | ⟨-, h1, -⟩ | ⟨-, h1, -⟩⟩
    · exact h1
    · omega
    · omega
    · omega
  refine vx_natRow (cls := "java/lang/NullPointerException") (msg := none) (vs := va_rf o0) (vd := va_rf o) hx hb hml hown hts hlink hnat hstat hini (by cases o0 <;> rfl) (by cases o <;> rfl) (Nat.lt_of_le_of_lt (Nat.zero_le _) hfr) (by show _ ≤ lo; omega) hdg ?_
    (acThrN (nb := 8) (A := G.2.2.2) hx hst (atP hts hE) atP_g ⟨ac_zq g1, g3⟩ ⟨ac_zq g2, g4⟩ hS rfl hml.symm hfr (by show 2 * 0 + (rest.map fun v => v.category).sum + 10240 ≤ lo; omega) (by show _ ≤ mc; omega) (by show _ ≤ ms; omega))
    (ac_kk hk hH hS (by omega) (by omega) kk)
  intro U fs EE hU hal hEE
  rcases hnull with rfl | rfl
  · exact Jvm.W.arraycopy_null1 sp dp n (va_rf o) (hEE _)
  · cases o0 with
    | none => exact Jvm.W.arraycopy_null1 sp dp n .null (hEE _)
    | some a0 => exact Jvm.W.arraycopy_null2 a0 sp dp n (hEE _)
theorem g_acS {own nm : String} {index nL fr lo mc ms : Nat} {ret' : Option FieldType} {o0 o : Option Nat} {sp dp n : Int32} {S : gS} {r : Nat × gS} (hc : gC p s m args meth c G own nm cc nL ret') (hst : l.stackTraces = false) (hml : c.maxLocals = ls.size) (hk : rOK Rp) (hH : hp G Rp S H) (hS : va_S G.2.2.2 s.heap H locs) (hlink : Cond.methodLink own index acN ∈ lw_all) (hnat : Cond.native acN ∈ lw_all) (hstat : Cond.static acN ∈ lw_all) (hini : Cond.initialized "java/lang/System" ∈ lw_all) (e1 : cpyX S o0 sp o dp n = some r) (hr : r.1 = 2) (hfr : 9 < fr) (hlo : (rest.map fun v => v.category).sum + 10240 ≤ lo) (hkc : kc + 3 ≤ mc) (hks : ks + 1010 ≤ ms) (hdg : decode cc pc = .ok (.invokestatic index, 3))
    (kk : acK p l e G Rp (gR fr lo mc ms) s m args below meth c locs kc ks Q pc ls rest S "java/lang/ArrayStoreException") : W p l e (gR fr lo mc ms) s m args below meth c H locs kc ks Q (F0 m pc ls (.int n :: .int dp :: va_rf o :: .int sp :: va_rf o0 :: rest)) := by
  obtain ⟨hx, hb, hrt, hlk, hml', hown, hts, hE, hA, hnm⟩ := hc
  obtain ⟨g1, g2, g3, g4⟩ := hE.2.2.2.2.2.2.2.2.2.1
  obtain ⟨a0, a, t0, n0, t1, n1, rfl, rfl, k0, k1, hne⟩ : ∃ a0 a t0 n0 t1 n1, o0 = some a0 ∧ o = some a ∧ arK S a0 = some (t0, n0) ∧ arK S a = some (t1, n1) ∧ t0 ≠ t1 := by
    rcases ac_ind e1 with ⟨h1, -⟩ | ⟨a0, a, t0, n0, t1, n1, eo0, eo, k0, k1, ⟨h1, h2⟩ | ⟨-, h1, -⟩ | ⟨-, h1, -⟩⟩
    · omega
    · exact ⟨a0, a, t0, n0, t1, n1, eo0, eo, k0, k1, h2⟩
    · omega
    · omega
  obtain ⟨c0, kl0, m0, x1, x2, x3, x4, x5, x6, x7⟩ := ac_arr hk hE hH k0
  obtain ⟨c1, kl1, m1, y1, y2, y3, y4, y5, y6, y7⟩ := ac_arr hk hE hH k1
  obtain ⟨rr, hrr, hrl⟩ := ac_t1 x6 y6
  obtain ⟨tx1, tx2⟩ := ac_text hrr hrl
  refine vx_natRow (cls := "java/lang/ArrayStoreException") (msg := some (toString "arraycopy: type mismatch: can not copy " ++ toString (Native.java_lang_System.arraycopy.kindName (acTy t0)) ++ toString "[] into " ++ toString (Native.java_lang_System.arraycopy.kindName (acTy t1)) ++ toString "[]" : String)) (vs := .ref a0) (vd := .ref a) hx hb hml hown hts hlink hnat hstat hini rfl rfl (Nat.lt_of_le_of_lt (Nat.zero_le _) hfr) (by show _ ≤ lo; omega) hdg ?_
    (acThrM (names := ["java/lang/RuntimeException", "java/lang/Exception"]) (nb := 990) (A := G.2.2.2) hx hst (by decide +kernel) (by decide +kernel) (by decide +kernel) (by decide +kernel) (atS hts hE) atS_g ⟨ac_zq g1, g3⟩ ⟨ac_zq g2, g4⟩ hS rfl hml.symm tx1 (by omega) (by decide) (by show 2 + 5 < fr; omega) (by show 2 * 0 + (rest.map fun v => v.category).sum + 10240 ≤ lo; omega) (by decide) (by show _ ≤ mc; omega) (by show _ ≤ ms; omega))
    (ac_kk hk hH hS (by omega) (by omega) kk)
  intro U fs EE hU hal hEE
  obtain ⟨kl0', z1, z2⟩ := hal.2.2 _ _ x3
  obtain ⟨kl1', w1, w2⟩ := hal.2.2 _ _ y3
  exact Jvm.W.arraycopy_types (s := U.setFrames fs) (cs := c0) (cd := c1) (by show U.heap[a0]? = _; rw [hU]; exact x1) (by show U.heap[a]? = _; rw [hU]; exact y1) x2.1 y2.1 z1 w1 (by rw [z2]; exact x4) (by rw [w2]; exact y4) (by rw [ac_ty x6 y6]; exact decide_eq_true hne) (hEE _)
theorem g_acA {own nm : String} {index nL fr lo mc ms : Nat} {ret' : Option FieldType} {o0 o : Option Nat} {sp dp n : Int32} {S : gS} {r : Nat × gS} (hc : gC p s m args meth c G own nm cc nL ret') (hst : l.stackTraces = false) (hml : c.maxLocals = ls.size) (hk : rOK Rp) (hH : hp G Rp S H) (hS : va_S G.2.2.2 s.heap H locs) (hlink : Cond.methodLink own index acN ∈ lw_all) (hnat : Cond.native acN ∈ lw_all) (hstat : Cond.static acN ∈ lw_all) (hini : Cond.initialized "java/lang/System" ∈ lw_all) (e1 : cpyX S o0 sp o dp n = some r) (hr0 : ¬ r.1 = 0) (hr1 : ¬ r.1 = 1) (hr2 : ¬ r.1 = 2) (hfr : 9 < fr) (hlo : (rest.map fun v => v.category).sum + 10240 ≤ lo) (hkc : kc + 3 ≤ mc) (hks : ks + 1010 ≤ ms) (hdg : decode cc pc = .ok (.invokestatic index, 3))
    (kk : acK p l e G Rp (gR fr lo mc ms) s m args below meth c locs kc ks Q pc ls rest S "java/lang/ArrayIndexOutOfBoundsException") : W p l e (gR fr lo mc ms) s m args below meth c H locs kc ks Q (F0 m pc ls (.int n :: .int dp :: va_rf o :: .int sp :: va_rf o0 :: rest)) := by
  obtain ⟨hx, hb, hrt, hlk, hml', hown, hts, hE, hA, hnm⟩ := hc
  obtain ⟨g1, g2, g3, g4⟩ := hE.2.2.2.2.2.2.2.2.2.1
  obtain ⟨a0, a, t0, n0, n1, rfl, rfl, k0, k1, hbad⟩ : ∃ a0 a t0 n0 n1, o0 = some a0 ∧ o = some a ∧ arK S a0 = some (t0, n0) ∧ arK S a = some (t0, n1) ∧ acBad n0 n1 sp dp n := by
    rcases ac_ind e1 with ⟨h1, -⟩ | ⟨a0, a, t0, n0, t1, n1, eo0, eo, k0, k1, ⟨h1, h2⟩ | ⟨h2, h1, h3⟩ | ⟨-, h1, -⟩⟩
    · omega
    · omega
    · subst h2
      exact ⟨a0, a, t0, n0, n1, eo0, eo, k0, k1, h3⟩
    · omega
  obtain ⟨c0, kl0, m0, x1, x2, x3, x4, x5, x6, x7⟩ := ac_arr hk hE hH k0
  obtain ⟨c1, kl1, m1, y1, y2, y3, y4, y5, y6, y7⟩ := ac_arr hk hE hH k1
  obtain ⟨what, hw1, hw2⟩ := ac_fault x6 x7 y7 hbad
  obtain ⟨rr, hrr, hrl⟩ := ac_t2 what 90 hw2
  obtain ⟨tx1, tx2⟩ := ac_text hrr hrl
  refine vx_natRow (cls := "java/lang/ArrayIndexOutOfBoundsException") (msg := some ("arraycopy: " ++ what)) (vs := .ref a0) (vd := .ref a) hx hb hml hown hts hlink hnat hstat hini rfl rfl (Nat.lt_of_le_of_lt (Nat.zero_le _) hfr) (by show _ ≤ lo; omega) hdg ?_
    (acThrM (names := ["java/lang/IndexOutOfBoundsException", "java/lang/RuntimeException", "java/lang/Exception"]) (nb := 990) (A := G.2.2.2) hx hst (by decide +kernel) (by decide +kernel) (by decide +kernel) (by decide +kernel) (atA hts hE) atA_g ⟨ac_zq g1, g3⟩ ⟨ac_zq g2, g4⟩ hS rfl hml.symm tx1 (by omega) (by decide) (by show 3 + 5 < fr; omega) (by show 2 * 0 + (rest.map fun v => v.category).sum + 10240 ≤ lo; omega) (by decide) (by show _ ≤ mc; omega) (by show _ ≤ ms; omega))
    (ac_kk hk hH hS (by omega) (by omega) kk)
  intro U fs EE hU hal hEE
  obtain ⟨kl0', z1, z2⟩ := hal.2.2 _ _ x3
  obtain ⟨kl1', w1, w2⟩ := hal.2.2 _ _ y3
  exact Jvm.W.arraycopy_bounds (s := U.setFrames fs) (cs := c0) (cd := c1) (what := what) (by show U.heap[a0]? = _; rw [hU]; exact x1) (by show U.heap[a]? = _; rw [hU]; exact y1) x2.1 y2.1 z1 w1 (by rw [z2]; exact x4) (by rw [w2]; exact y4) (by rw [ac_ty x6 y6]; exact decide_eq_false (fun h => h rfl)) (by rw [x5, y5]; exact hw1) (hEE _)
end
