/-! a checkcast that fails: the machine's ClassCastException, whose text is bounded by modulesRight -/
set_option maxRecDepth 100000
set_option maxHeartbeats 4000000
theorem home_len {vm : Vm} {k : Class} (hm : (vm.modules.all fun m => m.loader.isSome || m.name == "java.base" || !(castPackages_1.any fun p => m.packages.contains p)) = true) (hl : k.loader = none) (hp : packageOf k.name ∈ castPackages_1) : (vm.home k).toList.length ≤ 38 := by
  have hname : ∀ m, vm.moduleOf k = some m → m.name = "java.base" := by
    intro m hq
    unfold Vm.moduleOf at hq
    split at hq
    · have := List.find?_some hq
      simpa using this
    · have h1 := List.find?_some hq
      have h2 := List.mem_of_find?_eq_some hq
      have h3 := List.all_eq_true.mp hm m h2
      simp only [Bool.and_eq_true, beq_iff_eq] at h1
      rw [hl] at h1
      have h4 : (castPackages_1.any fun p => m.packages.contains p) = true := List.any_eq_true.mpr ⟨_, hp, h1.2⟩
      rw [h4, h1.1] at h3
      simpa using h3
  unfold Vm.home
  rw [hl]
  have e1 : (vm.loaderName none).toList.length = 11 := by
    show ("'bootstrap'").toList.length = 11
    decide
  simp only [String.toList_append, List.length_append, e1]
  have e2 : (" of loader ").toList.length = 11 := by decide
  rw [e2]
  cases hq : vm.moduleOf k with
  | none =>
    have : ("unnamed module").toList.length = 14 := by decide
    show ("unnamed module").toList.length + 11 + 11 ≤ 38
    omega
  | some m =>
    show ("module " ++ m.name).toList.length + 11 + 11 ≤ 38
    rw [hname m hq]
    have : ("module " ++ "java.base").toList.length = 16 := by decide
    omega
/-- a name that messages print short, of a package that the start's table of modules is asked of -/
def casN (C : String) : Prop := (dotted C).toList.length ≤ 22 ∧ packageOf C ∈ castPackages_1
theorem pkg_none {name : String} (cs ds : List Char) (h : name.toList = cs) (h1 : cs.dropWhile (· == '[') = ds) (h2 : ¬ (['['] <+: cs) ∨ ¬ (['L'] <+: ds)) (h3 : ds.reverse.dropWhile (· != '/') = []) : packageOf name = "" := by
  have hw : withoutBrackets name = String.ofList ds := by unfold withoutBrackets; rw [h, h1]
  have e1 : ("[").toList = ['['] := by decide
  have e2 : ("L").toList = ['L'] := by decide
  have hb : (name.startsWith "[" && (String.ofList ds).startsWith "L") = false := by
    rw [Bool.and_eq_false_iff]
    rcases h2 with h2 | h2
    · left
      rw [String.startsWith_string_eq_false_iff, e1, h]
      exact h2
    · right
      rw [String.startsWith_string_eq_false_iff, e2, String.toList_ofList]
      exact h2
  unfold packageOf
  rw [hw]
  simp only [hb, Bool.false_eq_true, if_false]
  unfold beforeLast
  rw [String.toList_ofList, h3]
theorem casN_of {name : String} (cs ds : List Char) (h : name.toList = cs) (h1 : cs.dropWhile (· == '[') = ds) (h2 : ¬ (['['] <+: cs) ∨ ¬ (['L'] <+: ds)) (h3 : ds.reverse.dropWhile (· != '/') = []) (h4 : cs.length ≤ 22) : casN name := by
  refine ⟨?_, ?_⟩
  · unfold dotted turned
    rw [String.toList_ofList, List.length_map, h]
    exact h4
  · rw [pkg_none cs ds h h1 h2 h3]
    exact List.mem_cons_self
theorem casN_0 : casN "CreditBroker$Cause" := casN_of ['C', 'r', 'e', 'd', 'i', 't', 'B', 'r', 'o', 'k', 'e', 'r', '$', 'C', 'a', 'u', 's', 'e'] ['C', 'r', 'e', 'd', 'i', 't', 'B', 'r', 'o', 'k', 'e', 'r', '$', 'C', 'a', 'u', 's', 'e'] (by rfl) (by decide +kernel) (Or.inl (by decide +kernel)) (by decide +kernel) (by decide +kernel)
theorem casN_1 : casN "CreditBroker$Failure" := casN_of ['C', 'r', 'e', 'd', 'i', 't', 'B', 'r', 'o', 'k', 'e', 'r', '$', 'F', 'a', 'i', 'l', 'u', 'r', 'e'] ['C', 'r', 'e', 'd', 'i', 't', 'B', 'r', 'o', 'k', 'e', 'r', '$', 'F', 'a', 'i', 'l', 'u', 'r', 'e'] (by rfl) (by decide +kernel) (Or.inl (by decide +kernel)) (by decide +kernel) (by decide +kernel)
theorem casN_2 : casN "CreditBroker$Loss" := casN_of ['C', 'r', 'e', 'd', 'i', 't', 'B', 'r', 'o', 'k', 'e', 'r', '$', 'L', 'o', 's', 's'] ['C', 'r', 'e', 'd', 'i', 't', 'B', 'r', 'o', 'k', 'e', 'r', '$', 'L', 'o', 's', 's'] (by rfl) (by decide +kernel) (Or.inl (by decide +kernel)) (by decide +kernel) (by decide +kernel)
theorem casN_3 : casN "CreditBroker$Rejected" := casN_of ['C', 'r', 'e', 'd', 'i', 't', 'B', 'r', 'o', 'k', 'e', 'r', '$', 'R', 'e', 'j', 'e', 'c', 't', 'e', 'd'] ['C', 'r', 'e', 'd', 'i', 't', 'B', 'r', 'o', 'k', 'e', 'r', '$', 'R', 'e', 'j', 'e', 'c', 't', 'e', 'd'] (by rfl) (by decide +kernel) (Or.inl (by decide +kernel)) (by decide +kernel) (by decide +kernel)
theorem casN_4 : casN "CreditBroker$Late" := casN_of ['C', 'r', 'e', 'd', 'i', 't', 'B', 'r', 'o', 'k', 'e', 'r', '$', 'L', 'a', 't', 'e'] ['C', 'r', 'e', 'd', 'i', 't', 'B', 'r', 'o', 'k', 'e', 'r', '$', 'L', 'a', 't', 'e'] (by rfl) (by decide +kernel) (Or.inl (by decide +kernel)) (by decide +kernel) (by decide +kernel)
theorem casN_5 : casN "CreditBroker$Old" := casN_of ['C', 'r', 'e', 'd', 'i', 't', 'B', 'r', 'o', 'k', 'e', 'r', '$', 'O', 'l', 'd'] ['C', 'r', 'e', 'd', 'i', 't', 'B', 'r', 'o', 'k', 'e', 'r', '$', 'O', 'l', 'd'] (by rfl) (by decide +kernel) (Or.inl (by decide +kernel)) (by decide +kernel) (by decide +kernel)
theorem casN_6 : casN "CreditBroker$Overfull" := casN_of ['C', 'r', 'e', 'd', 'i', 't', 'B', 'r', 'o', 'k', 'e', 'r', '$', 'O', 'v', 'e', 'r', 'f', 'u', 'l', 'l'] ['C', 'r', 'e', 'd', 'i', 't', 'B', 'r', 'o', 'k', 'e', 'r', '$', 'O', 'v', 'e', 'r', 'f', 'u', 'l', 'l'] (by rfl) (by decide +kernel) (Or.inl (by decide +kernel)) (by decide +kernel) (by decide +kernel)
theorem casN_a0 : casN "[I" := casN_of ['[', 'I'] ['I'] (by rfl) (by decide +kernel) (Or.inr (by decide +kernel)) (by decide +kernel) (by decide +kernel)
theorem casN_a1 : casN "[J" := casN_of ['[', 'J'] ['J'] (by rfl) (by decide +kernel) (Or.inr (by decide +kernel)) (by decide +kernel) (by decide +kernel)
theorem casN_a2 : casN "[B" := casN_of ['[', 'B'] ['B'] (by rfl) (by decide +kernel) (Or.inr (by decide +kernel)) (by decide +kernel) (by decide +kernel)
theorem casN_a3 : casN "[S" := casN_of ['[', 'S'] ['S'] (by rfl) (by decide +kernel) (Or.inr (by decide +kernel)) (by decide +kernel) (by decide +kernel)
theorem casN_a4 : casN "[Z" := casN_of ['[', 'Z'] ['Z'] (by rfl) (by decide +kernel) (Or.inr (by decide +kernel)) (by decide +kernel) (by decide +kernel)
theorem cast_text {vm : Vm} {a b : Class} (hm : (vm.modules.all fun m => m.loader.isSome || m.name == "java.base" || !(castPackages_1.any fun p => m.packages.contains p)) = true) (ha : a.loader = none ∧ a.hidden = none ∧ casN a.name) (hb : b.loader = none ∧ b.hidden = none ∧ casN b.name) :
    (Op.checkcast.message vm a b == notModelled) = false ∧ (stringBytes (stringToUtf16 (Op.checkcast.message vm a b))).size ≤ 990 := by
  have sa : a.shown = dotted a.name := by unfold Class.shown; rw [ha.2.1]
  have sb : b.shown = dotted b.name := by unfold Class.shown; rw [hb.2.1]
  have la := ha.2.2.1
  have lb := hb.2.2.1
  have h1 := home_len hm ha.1 ha.2.2.2
  have h2 := home_len hm hb.1 hb.2.2.2
  have hh : (vm.homes a b).toList.length ≤ 136 := by
    unfold Vm.homes
    split
    · show (toString a.shown ++ " and " ++ toString b.shown ++ " are in " ++ toString (vm.home a)).toList.length ≤ 136
      simp only [String.toList_append, List.length_append, sa, sb]
      have e1 : (" and ").toList.length = 5 := by decide
      have e2 : (" are in ").toList.length = 8 := by decide
      have e3 : (toString (dotted a.name)).toList.length ≤ 22 := la
      have e4 : (toString (dotted b.name)).toList.length ≤ 22 := lb
      have e5 : (toString (vm.home a)).toList.length ≤ 38 := h1
      omega
    · show (toString a.shown ++ " is in " ++ toString (vm.home a) ++ "; " ++ toString b.shown ++ " is in " ++ toString (vm.home b)).toList.length ≤ 136
      simp only [String.toList_append, List.length_append, sa, sb]
      have e1 : (" is in ").toList.length = 7 := by decide
      have e2 : ("; ").toList.length = 2 := by decide
      have e3 : (toString (dotted a.name)).toList.length ≤ 22 := la
      have e4 : (toString (dotted b.name)).toList.length ≤ 22 := lb
      have e5 : (toString (vm.home a)).toList.length ≤ 38 := h1
      have e6 : (toString (vm.home b)).toList.length ≤ 38 := h2
      omega
  have ht : Op.checkcast.message vm a b = "class " ++ toString a.shown ++ " cannot be cast to class " ++ toString b.shown ++ " (" ++ toString (vm.homes a b) ++ ")" := rfl
  have hlen : (Op.checkcast.message vm a b).toList.length ≤ 247 := by
    rw [ht]
    simp only [String.toList_append, List.length_append, sa, sb]
    have e1 : ("class ").toList.length = 6 := by decide
    have e2 : (" cannot be cast to class ").toList.length = 25 := by decide
    have e3 : (" (").toList.length = 2 := by decide
    have e4 : (")").toList.length = 1 := by decide
    have e5 : (toString (dotted a.name)).toList.length ≤ 22 := la
    have e6 : (toString (dotted b.name)).toList.length ≤ 22 := lb
    have e7 : (toString (vm.homes a b)).toList.length ≤ 136 := hh
    omega
  refine ⟨?_, ?_⟩
  · rw [beq_eq_false_iff_ne]
    intro h
    have h2 := congrArg String.toList h
    rw [ht] at h2
    simp only [String.toList_append] at h2
    have h3 : ("class ").toList = 'c' :: ("lass ").toList := by decide
    have h4 : notModelled.toList = '\u0000' :: (" a message that is not modelled").toList := by decide
    rw [h3, h4] at h2
    simp at h2
  · have b1 := stringBytes_size_le (stringToUtf16 (Op.checkcast.message vm a b))
    have b2 := utf16_size_le (Op.checkcast.message vm a b)
    omega
theorem findClass_none {vm : Vm} {name : String} {c : ClassId} (h : vm.findClass name = some c) : ∃ k, vm.classes[c]? = some k ∧ k.name = name ∧ k.loader = none ∧ k.hidden = none := by
  obtain ⟨hlt, hp, _⟩ := Array.findIdx?_eq_some_iff_getElem.mp h
  refine ⟨vm.classes[c], by simp [hlt], ?_⟩
  simp only [Bool.and_eq_true, beq_iff_eq, Option.isNone_iff_eq_none] at hp
  exact ⟨hp.1.1.1, hp.2, hp.1.1.2⟩
section
variable {p : Program} {l : Launch} {e : Env} {s : State} {m : MethodId} {args : Array Value} {below : List Frame} {meth : Method} {c : Code} {G : gG} {Rp : gM → gM → Nat → Prop} {R : Room} {H : Heap} {locs : List Loc} {Q : State → Prop} {cc : ByteArray} {ls : Array Slot} {rest : List Value} {pc : Nat} {kc ks : Nat}
theorem vx_castNo {own C nm : String} {index a : Nat} (hx : p.tables.exec = Jvm.exec) (hb : c.code = cc) (hown : s.vm.findClass own = some m.cls) (hlink : (Cond.classLink own index nm).before args s = true) (hc : va_Nc C nm s) (hmod : modulesRight_1 s = true) (hC : casN C) (hN : casN nm)
    (hr : ∃ cell : Cell, H[a]? = some cell ∧ cell.vm.isStatics = false ∧ s.vm.findClass C = some cell.cls) (hdg : decode cc pc = .ok (.checkcast index, 3))
    (k : ∀ tx : String, (tx == notModelled) = false → (stringBytes (stringToUtf16 tx)).size ≤ 990 → vx_Note p l e R s m args below meth c H locs kc ks Q (F0 m pc ls (.ref a :: rest)) "java/lang/ClassCastException" tx) : W p l e R s m args below meth c H locs kc ks Q (F0 m pc ls (.ref a :: rest)) := by
  obtain ⟨cell, h1, h2, h3⟩ := hr
  obtain ⟨c0, t0, f1, f2, f3⟩ := hc
  cases h3.symm.trans f1
  intro T hT X
  have hcell : T.heap[a]? = some cell := by rw [hT]; exact h1
  have hpl : e.platform.magicAccessors = ({} : Platform).magicAccessors := by rw [X.admits.platform]
  obtain ⟨c', hc', hcl⟩ := Cond.classLink_spec hown hlink e.platform hpl
  cases f2.symm.trans hc'
  obtain ⟨dk, _, _, kt, hd, _, _, _, _, hkt, _, hopen⟩ := hcl.here
  have hcl₀ := X.warmed.classLinks hcl
  have hW' : s.WarmedH (T.vm.noted m.cls index (.cls t0)) := X.warmed.noted hd hopen (State.rightAt_cls hcl)
  obtain ⟨ks0, hks0, n1, n2, n3⟩ := findClass_none h3
  obtain ⟨kt0, hkt0, n4, n5, n6⟩ := findClass_none f2
  obtain ⟨ks', hks', es⟩ := hW'.alike.2.2 _ _ hks0
  obtain ⟨kt', hkt', et⟩ := hW'.alike.2.2 _ _ hkt0
  have hmod' : ((T.vm.noted m.cls index (.cls t0)).modules.all fun m => m.loader.isSome || m.name == "java.base" || !(castPackages_1.any fun p => m.packages.contains p)) = true := by
    rw [hW'.alike.1]
    exact hmod
  have ia : ks'.loader = none ∧ ks'.hidden = none ∧ casN ks'.name := by rw [es]; exact ⟨n2, n3, by rw [show ({ ks0 with resolved := ks'.resolved, nestHost := ks'.nestHost, nestHostError := ks'.nestHostError } : Class).name = C from n1]; exact hC⟩
  have ib : kt'.loader = none ∧ kt'.hidden = none ∧ casN kt'.name := by rw [et]; exact ⟨n5, n6, by rw [show ({ kt0 with resolved := kt'.resolved, nestHost := kt'.nestHost, nestHostError := kt'.nestHostError } : Class).name = nm from n4]; exact hN⟩
  obtain ⟨t1, t2⟩ := cast_text hmod' ia ib
  obtain ⟨t, st, q⟩ := k _ t1 t2 (T.setVm (T.vm.noted m.cls index (.cls t0))) hT (X.noted hW')
  refine ⟨t, ?_, q⟩
  have hstk : (F0 m pc ls (.ref a :: rest)).stack = .ref a :: rest := rfl
  have hdg' : decode c.code (F0 m pc ls (.ref a :: rest)).pc = .ok (.checkcast index, 3) := by rw [hb]; exact hdg
  generalize hg : F0 m pc ls (.ref a :: rest) = g at hstk hdg' st ⊢
  have hgm : g.method = m := by rw [← hg]
  subst hgm
  jvm_step X.here [hx, hdg', Op.checkcast.wp_cold (e := e) (s := T) (f := g) X.here.top hstk (resolveClass_links e.toSetting hcl₀) hcl₀.ready,
    Op.checkcast.wp_ready (e := e) (s := T.setVm (T.vm.noted g.method.cls index (.cls t0))) (f := g) X.here.top hcl₀.ready hstk]
  refine ⟨cell, hcell, VmData.noStatics_of h2, ks', hks', kt', hkt', ?_⟩
  rw [if_neg (by rw [hW'.alike.assignable, f3]; simp)]
  exact st
/-- what a shelf holds, and whether it is of a class (0 Cause, 1 Failure, 2 Loss; 11 Rejected, 12 Late, 13 Old, 14 Overfull) -/
def ckIn (d ci : Nat) : Bool := match d with
  | 0 => true
  | 1 => ci == 11 || ci == 12
  | 2 => ci == 13 || ci == 14
  | _ => ci == d
def ckF (S : gS) (o : Option Nat) (d : Nat) : Option Bool := match o with
  | none => none
  | some a => match S.1 a with
    | some (.inl q) => if q.1 = 11 ∨ q.1 = 12 ∨ q.1 = 13 ∨ q.1 = 14 then some (ckIn d q.1) else none
    | some (.inr (.inl q)) => if q.1 < 5 then some false else none
    | _ => none
def ckN (d : Nat) : String := match d with
  | 0 => "CreditBroker$Cause"
  | 1 => "CreditBroker$Failure"
  | 2 => "CreditBroker$Loss"
  | 11 => "CreditBroker$Rejected"
  | 12 => "CreditBroker$Late"
  | 13 => "CreditBroker$Old"
  | _ => "CreditBroker$Overfull"
theorem g_castX {own : String} {index d : Nat} {o : Option Nat} {S : gS} (hx : p.tables.exec = Jvm.exec) (hb : c.code = cc) (hts : ∀ w ∈ lw_all, w.before args s = true) (hown : s.vm.findClass own = some m.cls) (hE : gE G s s.heap) (hk : rOK Rp) (hH : hp G Rp S H) (hd : d = 0 ∨ d = 1 ∨ d = 2 ∨ d = 11 ∨ d = 12 ∨ d = 13 ∨ d = 14) (hlink : Cond.classLink own index (ckN d) ∈ lw_all) (h : ckF S o d = some false) (hdg : decode cc pc = .ok (.checkcast index, 3))
    (k : ∀ tx : String, (tx == notModelled) = false → (stringBytes (stringToUtf16 tx)).size ≤ 990 → vx_Note p l e R s m args below meth c H locs kc ks Q (F0 m pc ls (va_rf o :: rest)) "java/lang/ClassCastException" tx) : W p l e R s m args below meth c H locs kc ks Q (F0 m pc ls (va_rf o :: rest)) := by
  have hN : casN (ckN d) := by
    rcases hd with rfl | rfl | rfl | rfl | rfl | rfl | rfl
    · exact casN_0
    · exact casN_1
    · exact casN_2
    · exact casN_3
    · exact casN_4
    · exact casN_5
    · exact casN_6
  have hnc := hE.2.2.2.2.1
  have hmod := hE.2.2.2.2.2.2.2.2.2.2.2.2.1
  cases o with
  | none => cases h
  | some a =>
    unfold ckF at h
    dsimp only at h
    split at h
    next q hq =>
      split at h
      next hqc =>
        obtain ⟨ci, fs⟩ := q
        dsimp only at hqc h
        rcases hqc with rfl | rfl | rfl | rfl
        · refine vx_castNo (C := "CreditBroker$Rejected") hx hb hown (hts _ hlink) (hnc ("CreditBroker$Rejected", ckN d) ?_) hmod casN_3 hN (g_recv hE hk hH (ci := 11) (q := (RX18, TX18, 5)) rfl hq) hdg k
          rcases hd with rfl | rfl | rfl | rfl | rfl | rfl | rfl <;> first | (exact absurd h (by decide)) | decide +kernel
        · refine vx_castNo (C := "CreditBroker$Late") hx hb hown (hts _ hlink) (hnc ("CreditBroker$Late", ckN d) ?_) hmod casN_4 hN (g_recv hE hk hH (ci := 12) (q := (RX19, TX19, 5)) rfl hq) hdg k
          rcases hd with rfl | rfl | rfl | rfl | rfl | rfl | rfl <;> first | (exact absurd h (by decide)) | decide +kernel
        · refine vx_castNo (C := "CreditBroker$Old") hx hb hown (hts _ hlink) (hnc ("CreditBroker$Old", ckN d) ?_) hmod casN_5 hN (g_recv hE hk hH (ci := 13) (q := (RX20, TX20, 4)) rfl hq) hdg k
          rcases hd with rfl | rfl | rfl | rfl | rfl | rfl | rfl <;> first | (exact absurd h (by decide)) | decide +kernel
        · refine vx_castNo (C := "CreditBroker$Overfull") hx hb hown (hts _ hlink) (hnc ("CreditBroker$Overfull", ckN d) ?_) hmod casN_6 hN (g_recv hE hk hH (ci := 14) (q := (RX14, TX14, 4)) rfl hq) hdg k
          rcases hd with rfl | rfl | rfl | rfl | rfl | rfl | rfl <;> first | (exact absurd h (by decide)) | decide +kernel
      next => cases h
    next q hq =>
      split at h
      next h5 =>
        obtain ⟨t, f⟩ := q
        dsimp only at h5
        have hr := arr_recv hE hk hH h5 hq
        rcases (show t = 0 ∨ t = 1 ∨ t = 2 ∨ t = 3 ∨ t = 4 by omega) with rfl | rfl | rfl | rfl | rfl
        · refine vx_castNo (C := "[I") hx hb hown (hts _ hlink) (hnc ("[I", ckN d) ?_) hmod casN_a0 hN hr hdg k
          rcases hd with rfl | rfl | rfl | rfl | rfl | rfl | rfl <;> decide +kernel
        · refine vx_castNo (C := "[J") hx hb hown (hts _ hlink) (hnc ("[J", ckN d) ?_) hmod casN_a1 hN hr hdg k
          rcases hd with rfl | rfl | rfl | rfl | rfl | rfl | rfl <;> decide +kernel
        · refine vx_castNo (C := "[B") hx hb hown (hts _ hlink) (hnc ("[B", ckN d) ?_) hmod casN_a2 hN hr hdg k
          rcases hd with rfl | rfl | rfl | rfl | rfl | rfl | rfl <;> decide +kernel
        · refine vx_castNo (C := "[S") hx hb hown (hts _ hlink) (hnc ("[S", ckN d) ?_) hmod casN_a3 hN hr hdg k
          rcases hd with rfl | rfl | rfl | rfl | rfl | rfl | rfl <;> decide +kernel
        · refine vx_castNo (C := "[Z") hx hb hown (hts _ hlink) (hnc ("[Z", ckN d) ?_) hmod casN_a4 hN hr hdg k
          rcases hd with rfl | rfl | rfl | rfl | rfl | rfl | rfl <;> decide +kernel
      next => cases h
    next => cases h
end
