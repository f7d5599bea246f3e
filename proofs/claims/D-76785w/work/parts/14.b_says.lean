/-! printed by gen/cgen.py (SC=1): the methods says and copy, lifted and walked -/
set_option maxRecDepth 100000
set_option maxHeartbeats 4000000
theorem hdX0_depthOf : yX0_depthOf.cls ≠ "java/lang/invoke/MethodHandle" ∧ yX0_depthOf.cls ≠ "java/lang/invoke/VarHandle" ∧ (parseMethodDescriptor yX0_depthOf.desc).map (fun d => d.parameters.length) = some 1 := by decide +kernel
theorem hdX19_who : yX19_who.cls = RX19 ∧ yX19_who.cls ≠ "java/lang/invoke/MethodHandle" ∧ yX19_who.cls ≠ "java/lang/invoke/VarHandle" ∧ (parseMethodDescriptor yX19_who.desc).map (fun d => d.parameters.length) = some 0 := by decide +kernel
theorem hdX20_age : yX20_age.cls = RX20 ∧ yX20_age.cls ≠ "java/lang/invoke/MethodHandle" ∧ yX20_age.cls ≠ "java/lang/invoke/VarHandle" ∧ (parseMethodDescriptor yX20_age.desc).map (fun d => d.parameters.length) = some 0 := by decide +kernel
theorem hdX14_limit : yX14_limit.cls = RX14 ∧ yX14_limit.cls ≠ "java/lang/invoke/MethodHandle" ∧ yX14_limit.cls ≠ "java/lang/invoke/VarHandle" ∧ (parseMethodDescriptor yX14_limit.desc).map (fun d => d.parameters.length) = some 0 := by decide +kernel
theorem hdX18_who : yX18_who.cls = RX18 ∧ yX18_who.cls ≠ "java/lang/invoke/MethodHandle" ∧ yX18_who.cls ≠ "java/lang/invoke/VarHandle" ∧ (parseMethodDescriptor yX18_who.desc).map (fun d => d.parameters.length) = some 0 := by decide +kernel
theorem tsw5 {x : Int32} (h0 : ¬ x = 0) (h1 : ¬ x = 1) (h2 : ¬ x = 2) (h3 : ¬ x = 3) (h4 : ¬ x = 4) (h5 : ¬ x = 5) : x.toInt < 0 ∨ 5 < x.toInt := by
  have g0 : ¬ x.toInt = 0 := fun e => h0 (Int32.toInt_inj.mp (e.trans (by decide)))
  have g1 : ¬ x.toInt = 1 := fun e => h1 (Int32.toInt_inj.mp (e.trans (by decide)))
  have g2 : ¬ x.toInt = 2 := fun e => h2 (Int32.toInt_inj.mp (e.trans (by decide)))
  have g3 : ¬ x.toInt = 3 := fun e => h3 (Int32.toInt_inj.mp (e.trans (by decide)))
  have g4 : ¬ x.toInt = 4 := fun e => h4 (Int32.toInt_inj.mp (e.trans (by decide)))
  have g5 : ¬ x.toInt = 5 := fun e => h5 (Int32.toInt_inj.mp (e.trans (by decide)))
  omega
section
variable {p : Program} {l : Launch} {e : Env} {s : State} {m : MethodId} {args : Array Value} {below : List Frame} {meth : Method} {c : Code} {G : gG} {Rp : gM → gM → Nat → Prop} {mc ms : Nat}
section
variable {r : Int32} {Sf : gS}
def fX13_causes (l0 : Nat) (S : gS) : gO Int32 :=
  bd (rdPR S l0 1) fun v1 =>
  gb (fX0_depthOf v1 S) fun v2 S2 =>
  some (v2, S2, 0, 0)
theorem wX13_causes_b0 (hk : rOK Rp) (hJ : JDK l G Rp) (hc : gC p s m args meth c G RX13 "causes" cX13_causes 1 (some .int)) (l0 : Nat) (S : gS) (H : Heap) (locs : List Loc) (ls : Array Slot) (kc ks C N : Nat) (hkc : kc + C ≤ mc) (hks : ks + N ≤ ms) (hH : hp G Rp S H) (hS : va_S G.2.2.2 s.heap H locs) (hl : lv_has ls 1 [(0, .ref l0)]) (hf : fX13_causes l0 S = some (r, Sf, C, N)) : W p l e (gR 3 80 mc ms) s m args below meth c H locs kc ks (gQ below G Rp (some (.int r)) Sf args s mc ms) (F0 m 0 ls []) := by
  obtain ⟨hx, hb, hr, hlk, hml, hown, hts, hE, hA, hnm⟩ := hc
  have hc : gC p s m args meth c G RX13 "causes" cX13_causes 1 (some .int) := ⟨hx, hb, hr, hlk, hml, hown, hts, hE, hA, hnm⟩
  unfold fX13_causes at hf
  refine lv_aload_n (pc := 0) hx hb dX13_causes_0 rfl (lv_at hl 0 rfl) ?_
  obtain ⟨v1, e1, hf⟩ := bdo hf
  refine g_getP (pc := 1) (o := (some l0)) (a := l0) (k := 1) (v := va_rf v1) (ref := "CreditBroker$Loss") hx hb hts hown hE hk hH (by decide) (hts _ q1626) (fun x h9 => u_same (hts _ q1627) x h9) rfl (rdPR_o e1) dX13_causes_1 ?_
  obtain ⟨v2, S2, c2, n2, c2_2, n2_2, e2, hf, hC2, hN2⟩ := gbo hf
  refine g_callSN (pc := 4) (As := [va_rf v1]) (rest := []) (st1 := [.int v2]) hc (mX0_depthOf hk hJ (l0 := v1) e2) q892 q894 q97 q893 hdX0_depthOf ⟨Nat.le_of_ble_eq_true rfl, Nat.le_of_ble_eq_true rfl⟩ rfl hl.1 rfl rfl (lv_room (Nat.le_of_ble_eq_true rfl)) dX13_causes_4 hH hS (by omega) (by omega) (fun H locs hH hS => ?_)
  have hkc : kc + c2 + c2_2 ≤ mc := by omega
  have hks : ks + n2 + n2_2 ≤ ms := by omega
  exact g_iret (pc := 7) hx hb hr hlk hH hS hkc hks hf dX13_causes_7
theorem mX13_causes {l : Launch} {G : gG} {Rp : gM → gM → Nat → Prop} (hk : rOK Rp) (hJ : JDK l G Rp) {S S2 : gS} {r2 : Int32} {C N : Nat} {l0 : Nat} (hf : fX13_causes l0 S = some (r2, S2, C, N)) : gMet l yX13_causes cX13_causes 1 (some .int) 3 80 G Rp [.ref l0] S (some (.int r2)) S2 C N := by
  refine g_start (by decide) (Nat.le_of_ble_eq_true rfl) (fun p e s m args below meth c ls hc hl hH => ?_)
  have hl : lv_has ls 1 [(0, .ref l0)] := hl
  exact wX13_causes_b0 hk hJ hc l0 S _ _ ls 0 0 C N (by omega) (by omega) hH va_S.rf (lv_sub hl [0] rfl) hf
end
section
variable {r : Int32} {Sf : gS}
section
variable {p : Program} {l : Launch} {e : Env} {s : State} {m : MethodId} {args : Array Value} {below : List Frame} {meth : Method} {c : Code} {G : gG} {Rp : gM → gM → Nat → Prop} {R : Room} {H : Heap} {locs : List Loc} {Q : State → Prop} {cc : ByteArray} {ls : Array Slot} {rest : List Value} {pc : Nat} {kc ks : Nat}
theorem gP_causes {own nm : String} {nL fr lo index C9 N mc ms b : Nat} {o : Option Nat} {ret' : Option FieldType} {As st0 st1 : List Value} {S S2 : gS} {v : Int32} {u : Unit} (hc : gC p s m args meth c G own nm cc nL ret') (hk : rOK Rp) (hJ : JDK l G Rp) (e1 : fX13_causes b S = some (v, S2, C9, N)) (ec : ckP S (some b) 2 = some u) (hl : Cond.methodLink own index (⟨"CreditBroker$Loss", "causes", "()I"⟩ : MethodName) ∈ lw_all) (hfr : 4 ≤ fr) (hlo : 100 ≤ lo) (eo : o = some b) (hn : As = []) (hsize : ls.size = nL) (hst0 : st0 = As.reverse ++ va_rf o :: rest) (hst : (some (.int v)).toList ++ rest = st1) (hW : 2 * (F0 m pc ls st0).monitorRoom + (rest.map fun v => v.category).sum ≤ 8) (hdg : decode cc pc = .ok (.invokevirtual index, 3)) (hH : hp G Rp S H) (hS : va_S G.2.2.2 s.heap H locs) (hkc : kc + C9 ≤ mc) (hks : ks + N ≤ ms)
    (kk : ∀ (H1 : Heap) (locs1 : List Loc), hp G Rp S2 H1 → va_S G.2.2.2 s.heap H1 locs1 → W p l e (gR fr lo mc ms) s m args below meth c H1 locs1 (kc + C9) (ks + N) Q (F0 m (pc + 3) ls st1)) : W p l e (gR fr lo mc ms) s m args below meth c H locs kc ks Q (F0 m pc ls st0) := by
  subst hn
  obtain ⟨hx, hb, hr, hlk, hml, hown, hts, hE, hA, hnm⟩ := hc
  have hc : gC p s m args meth c G own nm cc nL ret' := ⟨hx, hb, hr, hlk, hml, hown, hts, hE, hA, hnm⟩
  obtain ⟨ci, fs, h9, h8⟩ := ckP_o ec
  rcases inD_c h9 with rfl | rfl | rfl | rfl
  · exact absurd h9 (by decide)
  · exact absurd h9 (by decide)
  · exact g_callU (x := (⟨"CreditBroker$Loss", "causes", "()I"⟩ : MethodName)) (owner := "CreditBroker$Loss") (C := "CreditBroker$Old") (As := []) hc (mX13_causes hk hJ (l0 := b) e1) (va_cwU 0 hts (lw_app (lw_of5 hl q888 q889 q887 q140) (lw_meth q891)) rfl rfl rfl rfl (by decide +kernel) ⟨(Nat.le_trans (Nat.le_of_ble_eq_true rfl) hfr), (Nat.le_trans (Nat.le_of_ble_eq_true rfl) hlo)⟩) (g_recv hE hk hH (ci := 13) (q := (RX20, TX20, 4)) rfl h8) eo rfl hsize hst0 hst hW hdg hH hS hkc hks kk
  · exact g_callU (x := (⟨"CreditBroker$Loss", "causes", "()I"⟩ : MethodName)) (owner := "CreditBroker$Loss") (C := "CreditBroker$Overfull") (As := []) hc (mX13_causes hk hJ (l0 := b) e1) (va_cwU 0 hts (lw_app (lw_of5 hl q888 q890 q887 q140) (lw_meth q891)) rfl rfl rfl rfl (by decide +kernel) ⟨(Nat.le_trans (Nat.le_of_ble_eq_true rfl) hfr), (Nat.le_trans (Nat.le_of_ble_eq_true rfl) hlo)⟩) (g_recv hE hk hH (ci := 14) (q := (RX14, TX14, 4)) rfl h8) eo rfl hsize hst0 hst hW hdg hH hS hkc hks kk
end
end
section
variable {P : Int32 ⊕ gTh → gS → Prop}
def fX0_says_b17 (j : Nat) (l0 : Nat) (S : gS) : gX Int32 :=
  bd (chk S l0 0) fun _ =>
  gb (fX0_no l0 (-82) S) fun v1 S1 =>
  some (.inl v1, S1, 0, 0)
theorem wX0_says_b17 (hk : rOK Rp) (hJ : JDK l G Rp) (hst : l.stackTraces = false) (htb : c.exceptionTable.toList = tableOf [(45, 151, 152, 194)]) (hc : gC p s m args meth c G RX0 "says" cX0_says 5 (some .int)) (l0 : Nat) (S : gS) (H : Heap) (locs : List Loc) (ls : Array Slot) (kc ks C N : Nat) (hkc : kc + C ≤ mc) (hks : ks + N ≤ ms) (hH : hp G Rp S H) (hS : va_S G.2.2.2 s.heap H locs) (hl : lv_has ls 5 [(0, .ref l0)]) (hf : (∀ j : Nat, oky C N (fX0_says_b17 j l0 S) P)) : W p l e (gR 12 10500 mc ms) s m args below meth c H locs kc ks (gQJ below G Rp iI P args s mc ms) (F0 m 17 ls []) := by
  obtain ⟨hx, hb, hr, hlk, hml, hown, hts, hE, hA, hnm⟩ := hc
  have hc : gC p s m args meth c G RX0 "says" cX0_says 5 (some .int) := ⟨hx, hb, hr, hlk, hml, hown, hts, hE, hA, hnm⟩
  simp only [fX0_says_b17] at hf
  refine lv_aload_n (pc := 17) hx hb dX0_says_17 rfl (lv_at hl 0 rfl) ?_
  refine lv_bipush (pc := 18) (v := -82) hx hb dX0_says_18 gkbm82 ?_
  obtain ⟨_, ek1, hf⟩ := bdJ hf
  obtain ⟨v1, S1, c1, n1, c2_1, n2_1, e1, hf, hC1, hN1⟩ := gbJ hf
  refine g_callV (pc := 20) (o := (some l0)) (b := l0) (As := [.int (-82)]) (rest := []) (st1 := [.int v1]) hc (mX0_no hk hJ (l0 := l0) (l1 := (-82)) e1) (cwV 1 hts (lw_V q398 q400 qs2 q97 q401) rfl rfl rfl hdX0_no ⟨Nat.le_of_ble_eq_true rfl, Nat.le_of_ble_eq_true rfl⟩) (g_recv hE hk hH (ci := 0) (q := (RX0, TX0, 7)) rfl (chk_o ek1).choose_spec) rfl rfl hl.1 rfl rfl (lv_room (Nat.le_of_ble_eq_true rfl)) dX0_says_20 hH hS (by omega) (by omega) (fun H locs hH hS => ?_)
  have hkc : kc + c1 + c2_1 ≤ mc := by omega
  have hks : ks + n1 + n2_1 ≤ ms := by omega
  exact g_iretJ (pc := 23) hx hb hr hlk hH hS hkc hks hf dX0_says_23
def fX0_says (j : Nat) (l0 : Nat) (l1 : Int32) (l2 : Int32) (S : gS) : gX Int32 :=
  gb (fX0_isShelf l1 S) fun v1 S1 =>
  if v1 = 0 then
    fX0_says_b17 j l0 S1
  else
    gb (fX0_isIn l2 (nI 0) (nI 6) S1) fun v3 S3 =>
    if v3 = 0 then
      fX0_says_b17 j l0 S3
    else
      bd (rdR S3 l0 0 3) fun v5 =>
      bd v5 fun a6 =>
      bd (rdAq S3 a6 6 l1) fun v7 =>
      bd v7 fun a8 =>
      bd (rdR S3 a8 2 0) fun v9 =>
      if v9 = none then
        bd (chk S3 l0 0) fun _ =>
        gb (fX0_no l0 (-84) S3) fun v47 S47 =>
        some (.inl v47, S47, 0, 0)
      else
        if l2 = 0 then
          bd (ckF S3 v9 0) fun b12 =>
          if b12 = false then ad 3 1010 (
            bd (some ((S3.1, S3.2 + j) : gS)) fun S12j =>
            bd (chk S12j l0 0) fun _ =>
            gb (fX0_no l0 (-83) S12j) fun v13 S13 =>
            some (.inl v13, S13, 0, 0)) else
          bd (ckP S3 v9 0) fun _ =>
          bd v9 fun a15 =>
          bd (rdPI S3 a15 0) fun v16 =>
          some (.inl v16, S3, 0, 0)
        else if l2 = 1 then
          bd (ckF S3 v9 1) fun b17 =>
          if b17 = false then ad 3 1010 (
            bd (some ((S3.1, S3.2 + j) : gS)) fun S17j =>
            bd (chk S17j l0 0) fun _ =>
            gb (fX0_no l0 (-83) S17j) fun v18 S18 =>
            some (.inl v18, S18, 0, 0)) else
          bd (ckP S3 v9 1) fun _ =>
          bd v9 fun a20 =>
          bd (rdFI S3 a20 3) fun v21 =>
          some (.inl v21, S3, 0, 0)
        else if l2 = 2 then
          bd (ckF S3 v9 2) fun b22 =>
          if b22 = false then ad 3 1010 (
            bd (some ((S3.1, S3.2 + j) : gS)) fun S22j =>
            bd (chk S22j l0 0) fun _ =>
            gb (fX0_no l0 (-83) S22j) fun v23 S23 =>
            some (.inl v23, S23, 0, 0)) else
          bd (ckP S3 v9 2) fun _ =>
          bd v9 fun a26 =>
          bd (ckP S3 (some a26) 2) fun _ =>
          gb (fX13_causes a26 S3) fun v25 S25 =>
          some (.inl v25, S25, 0, 0)
        else if l2 = 3 then
          bd (ckF S3 v9 11) fun b27 =>
          if b27 = false then ad 3 1010 (
            bd (some ((S3.1, S3.2 + j) : gS)) fun S27j =>
            bd (chk S27j l0 0) fun _ =>
            gb (fX0_no l0 (-83) S27j) fun v28 S28 =>
            some (.inl v28, S28, 0, 0)) else
          bd (ckc S3 v9 11) fun _ =>
          bd v9 fun a31 =>
          bd (chk S3 a31 11) fun _ =>
          gb (fX18_who a31 S3) fun v30 S30 =>
          some (.inl v30, S30, 0, 0)
        else if l2 = 4 then
          bd (ckF S3 v9 12) fun b32 =>
          if b32 = false then ad 3 1010 (
            bd (some ((S3.1, S3.2 + j) : gS)) fun S32j =>
            bd (chk S32j l0 0) fun _ =>
            gb (fX0_no l0 (-83) S32j) fun v33 S33 =>
            some (.inl v33, S33, 0, 0)) else
          bd (ckc S3 v9 12) fun _ =>
          bd v9 fun a36 =>
          bd (chk S3 a36 12) fun _ =>
          gb (fX19_who a36 S3) fun v35 S35 =>
          some (.inl v35, S35, 0, 0)
        else if l2 = 5 then
          bd (ckF S3 v9 13) fun b37 =>
          if b37 = false then ad 3 1010 (
            bd (some ((S3.1, S3.2 + j) : gS)) fun S37j =>
            bd (chk S37j l0 0) fun _ =>
            gb (fX0_no l0 (-83) S37j) fun v38 S38 =>
            some (.inl v38, S38, 0, 0)) else
          bd (ckc S3 v9 13) fun _ =>
          bd v9 fun a41 =>
          bd (chk S3 a41 13) fun _ =>
          gb (fX20_age a41 S3) fun v40 S40 =>
          some (.inl v40, S40, 0, 0)
        else
          bd (ckF S3 v9 14) fun b42 =>
          if b42 = false then ad 3 1010 (
            bd (some ((S3.1, S3.2 + j) : gS)) fun S42j =>
            bd (chk S42j l0 0) fun _ =>
            gb (fX0_no l0 (-83) S42j) fun v43 S43 =>
            some (.inl v43, S43, 0, 0)) else
          bd (ckc S3 v9 14) fun _ =>
          bd v9 fun a46 =>
          bd (chk S3 a46 14) fun _ =>
          gb (fX14_limit a46 S3) fun v45 S45 =>
          some (.inl v45, S45, 0, 0)
theorem wX0_says_b0 (hk : rOK Rp) (hJ : JDK l G Rp) (hst : l.stackTraces = false) (htb : c.exceptionTable.toList = tableOf [(45, 151, 152, 194)]) (hc : gC p s m args meth c G RX0 "says" cX0_says 5 (some .int)) (l0 : Nat) (l1 : Int32) (l2 : Int32) (S : gS) (H : Heap) (locs : List Loc) (ls : Array Slot) (kc ks C N : Nat) (hkc : kc + C ≤ mc) (hks : ks + N ≤ ms) (hH : hp G Rp S H) (hS : va_S G.2.2.2 s.heap H locs) (hl : lv_has ls 5 [(0, .ref l0), (1, .int l1), (2, .int l2)]) (hf : (∀ j : Nat, oky C N (fX0_says j l0 l1 l2 S) P)) : W p l e (gR 12 10500 mc ms) s m args below meth c H locs kc ks (gQJ below G Rp iI P args s mc ms) (F0 m 0 ls []) := by
  obtain ⟨hx, hb, hr, hlk, hml, hown, hts, hE, hA, hnm⟩ := hc
  have hc : gC p s m args meth c G RX0 "says" cX0_says 5 (some .int) := ⟨hx, hb, hr, hlk, hml, hown, hts, hE, hA, hnm⟩
  simp only [fX0_says] at hf
  refine lv_iload_n (pc := 0) hx hb dX0_says_0 rfl (lv_at hl 1 rfl) ?_
  obtain ⟨v1, S1, c1, n1, c2_1, n2_1, e1, hf, hC1, hN1⟩ := gbJ hf
  refine g_callS (pc := 1) (As := [.int l1]) (rest := []) (st1 := [.int v1]) hc (mX0_isShelf hk hJ (l0 := l1) e1) (va_cwS 1 hts (lw_S q392 q393 q97 q394) rfl rfl rfl hdX0_isShelf ⟨Nat.le_of_ble_eq_true rfl, Nat.le_of_ble_eq_true rfl⟩) rfl hl.1 rfl rfl (lv_room (Nat.le_of_ble_eq_true rfl)) dX0_says_1 hH hS (by omega) (by omega) (fun H locs hH hS => ?_)
  have hkc : kc + c1 + c2_1 ≤ mc := by omega
  have hks : ks + n1 + n2_1 ≤ ms := by omega
  refine lv_if_eq (pc := 4) (tgt := 17) hx hb dX0_says_4 (by decide) (fun c2 => ?_) (fun c2 => ?_)
  · simp only [if_pos c2] at hf
    exact wX0_says_b17 hk hJ hst htb hc l0 S1 _ _ ls _ _ _ _ hkc hks hH hS (lv_sub hl [0] rfl) hf
  · simp only [if_neg c2] at hf
    refine lv_iload_n (pc := 7) hx hb dX0_says_7 rfl (lv_at hl 2 rfl) ?_
    refine lv_iconst (pc := 8) (v := nI 0) hx hb dX0_says_8 rfl ?_
    refine lv_bipush (pc := 9) (v := nI 6) hx hb dX0_says_9 gkb6 ?_
    obtain ⟨v3, S3, c3, n3, c2_3, n2_3, e3, hf, hC3, hN3⟩ := gbJ hf
    refine g_callS (pc := 11) (As := [.int l2, .int (nI 0), .int (nI 6)]) (rest := []) (st1 := [.int v3]) hc (mX0_isIn hk hJ (l0 := l2) (l1 := (nI 0)) (l2 := (nI 6)) e3) (va_cwS 3 hts (lw_S q395 q396 q97 q397) rfl rfl rfl hdX0_isIn ⟨Nat.le_of_ble_eq_true rfl, Nat.le_of_ble_eq_true rfl⟩) rfl hl.1 rfl rfl (lv_room (Nat.le_of_ble_eq_true rfl)) dX0_says_11 hH hS (by omega) (by omega) (fun H locs hH hS => ?_)
    have hkc : kc + c1 + c3 + c2_3 ≤ mc := by omega
    have hks : ks + n1 + n3 + n2_3 ≤ ms := by omega
    refine lv_if_ne (pc := 14) (tgt := 24) hx hb dX0_says_14 (by decide) (fun c4 => ?_) (fun c4 => ?_)
    · simp only [if_neg c4] at hf
      refine lv_aload_n (pc := 24) hx hb dX0_says_24 rfl (lv_at hl 0 rfl) ?_
      obtain ⟨v5, e5, hf⟩ := bdJ hf
      refine g_get (pc := 25) (o := (some l0)) (a := l0) (ci := 0) (k := 3) (v := va_rf v5) (C := RX0) (T := TX0) (N := 7) hx hb hts hown hE hk hH in_X0 rfl (by decide) (hts _ q275) (fun _ h9 => h9) rfl (rdR_o e5) dX0_says_25 ?_
      refine lv_iload_n (pc := 28) hx hb dX0_says_28 rfl (lv_at hl 1 rfl) ?_
      obtain ⟨a6, ea6, hf⟩ := bdJ hf
      obtain ⟨v7, e7, hf⟩ := bdJ hf
      refine g_aald (pc := 29) (o := v5) (a := a6) (t := 6) (t0 := 6) hx hb hE hk hH rfl ea6 e7 dX0_says_29 ?_
      obtain ⟨a8, ea8, hf⟩ := bdJ hf
      obtain ⟨v9, e9, hf⟩ := bdJ hf
      refine g_get (pc := 30) (o := v7) (a := a8) (ci := 2) (k := 0) (v := va_rf v9) (C := RX2) (T := TX2) (N := 1) hx hb hts hown hE hk hH in_X2 rfl (by decide) (hts _ q267) (fun _ h9 => h9) ea8 (rdR_o e9) dX0_says_30 ?_
      refine g_astore_n (pc := 33) (i := 3) (o := v9) (lv' := [(3, va_rf v9), (0, .ref l0), (1, .int l1), (2, .int l2)]) hx hb dX0_says_33 rfl hl (by decide) rfl (fun ls hl => ?_)
      refine g_aload_n (pc := 34) (o := v9) hx hb dX0_says_34 rfl (lv_at hl 0 rfl) ?_
      refine g_ifnonnull (pc := 35) (o := v9) (tgt := 45) hx hb dX0_says_35 (by decide) (fun c10 => ?_) (fun c10 => ?_)
      · simp only [if_neg c10] at hf
        refine lv_iload_n (pc := 45) hx hb dX0_says_45 rfl (lv_at hl 3 rfl) ?_
        by_cases c11_0 : l2 = 0
        · simp only [if_pos c11_0] at hf
          refine lv_tableIn (pc := 46) (off := 38) (tgt := 84) hx hb dX0_says_46 (by rw [c11_0]; decide) (by rw [c11_0]; decide) (by rw [c11_0]; rfl) (by decide) ?_
          refine g_aload_n (pc := 84) (o := v9) hx hb dX0_says_84 rfl (lv_at hl 0 rfl) ?_
          obtain ⟨b12, e12, hf⟩ := bdJ hf
          by_cases c12 : b12 = false
          · simp only [if_pos c12] at hf
            obtain ⟨c2_12, n2_12, hf, hC12, hN12⟩ := adJ hf
            have hkc : kc + c1 + c3 + 3 + c2_12 ≤ mc := by omega
            have hks : ks + n1 + n3 + 1010 + n2_12 ≤ ms := by omega
            subst c12
            refine g_castX (pc := 85) (o := v9) (d := 0) hx hb hts hown hE hk hH (by decide) q436 e12 dX0_says_85 (fun tx ht1 ht2 => g_vm (nb := 990) (names := ["java/lang/RuntimeException", "java/lang/Exception"]) hc hst hk (by decide +kernel) (by decide +kernel) (by decide +kernel) (by decide +kernel) (atC hts hE) atC_g hl.1 ht1 ht2 (by decide) (by decide) (by simp [va_rf_cat, cat_i, cat_j, cat_r]) (by decide) (by omega) (by omega) hH hS (fun H q12 ce nz hnz hH hS h1_12 h2_12 h3_12 => ?_))
            have hf := swJ hnz hf
            obtain ⟨S12j, eS12j⟩ : ∃ Sz : gS, Sz = ((S3.1, nz) : gS) := ⟨((S3.1, nz) : gS), rfl⟩
            rw [← eS12j] at hf hH
            refine vx_catch (own := RX0) (name := "java/lang/ClassCastException") hown [] ⟨45, 151, 152, 194⟩ [] (htb.trans rfl) lp0 (by decide) (by decide) (hts _ q870) (va_Nw.use rfl (hE.2.1.1 _ _ q882)) h1_12 h2_12 h3_12 ?_
            refine lv_astore (pc := 152) (i := 4) (lv' := [(4, .ref q12), (3, va_rf v9), (0, .ref l0), (1, .int l1), (2, .int l2)]) hx hb dX0_says_152 hl (by decide) (by simp [va_rf_cat, cat_i, cat_j, cat_r] <;> rfl) (fun ls hl => ?_)
            refine lv_aload_n (pc := 154) hx hb dX0_says_154 rfl (lv_at hl 2 rfl) ?_
            refine lv_bipush (pc := 155) (v := -83) hx hb dX0_says_155 gkbm83 ?_
            obtain ⟨_, ek13, hf⟩ := bdJ hf
            obtain ⟨v13, S13, c13, n13, c2_13, n2_13, e13, hf, hC13, hN13⟩ := gbJ hf
            refine g_callV (pc := 157) (o := (some l0)) (b := l0) (As := [.int (-83)]) (rest := []) (st1 := [.int v13]) hc (mX0_no hk hJ (l0 := l0) (l1 := (-83)) e13) (cwV 1 hts (lw_V q398 q400 qs2 q97 q401) rfl rfl rfl hdX0_no ⟨Nat.le_of_ble_eq_true rfl, Nat.le_of_ble_eq_true rfl⟩) (g_recv hE hk hH (ci := 0) (q := (RX0, TX0, 7)) rfl (chk_o ek13).choose_spec) rfl rfl hl.1 rfl rfl (lv_room (Nat.le_of_ble_eq_true rfl)) dX0_says_157 hH hS (by omega) (by omega) (fun H locs hH hS => ?_)
            have hkc : kc + c1 + c3 + 3 + c13 + c2_13 ≤ mc := by omega
            have hks : ks + n1 + n3 + 1010 + n13 + n2_13 ≤ ms := by omega
            exact g_iretJ (pc := 160) hx hb hr hlk hH hS hkc hks hf dX0_says_160
          · simp only [if_neg c12] at hf
            obtain ⟨_, e14, hf⟩ := bdJ hf
            refine g_castP (pc := 85) (o := v9) (d := 0) hx hb hts hown hE hk hH q436 e14 dX0_says_85 ?_
            obtain ⟨a15, ea15, hf⟩ := bdJ hf
            obtain ⟨v16, e16, hf⟩ := bdJ hf
            refine g_getP (pc := 88) (o := v9) (a := a15) (k := 0) (v := .int v16) (ref := "CreditBroker$Cause") hx hb hts hown hE hk hH (by decide) (hts _ q1624) (fun _ h9 => h9) ea15 (rdPI_o e16) dX0_says_88 ?_
            refine lv_goto (pc := 91) (tgt := 151) hx hb dX0_says_91 (by decide) ?_
            exact g_iretJ (pc := 151) hx hb hr hlk hH hS hkc hks hf dX0_says_151
        · simp only [if_neg c11_0] at hf
          by_cases c11_1 : l2 = 1
          · simp only [if_pos c11_1] at hf
            refine lv_tableIn (pc := 46) (off := 48) (tgt := 94) hx hb dX0_says_46 (by rw [c11_1]; decide) (by rw [c11_1]; decide) (by rw [c11_1]; rfl) (by decide) ?_
            refine g_aload_n (pc := 94) (o := v9) hx hb dX0_says_94 rfl (lv_at hl 0 rfl) ?_
            obtain ⟨b17, e17, hf⟩ := bdJ hf
            by_cases c17 : b17 = false
            · simp only [if_pos c17] at hf
              obtain ⟨c2_17, n2_17, hf, hC17, hN17⟩ := adJ hf
              have hkc : kc + c1 + c3 + 3 + c2_17 ≤ mc := by omega
              have hks : ks + n1 + n3 + 1010 + n2_17 ≤ ms := by omega
              subst c17
              refine g_castX (pc := 95) (o := v9) (d := 1) hx hb hts hown hE hk hH (by decide) q884 e17 dX0_says_95 (fun tx ht1 ht2 => g_vm (nb := 990) (names := ["java/lang/RuntimeException", "java/lang/Exception"]) hc hst hk (by decide +kernel) (by decide +kernel) (by decide +kernel) (by decide +kernel) (atC hts hE) atC_g hl.1 ht1 ht2 (by decide) (by decide) (by simp [va_rf_cat, cat_i, cat_j, cat_r]) (by decide) (by omega) (by omega) hH hS (fun H q17 ce nz hnz hH hS h1_17 h2_17 h3_17 => ?_))
              have hf := swJ hnz hf
              obtain ⟨S17j, eS17j⟩ : ∃ Sz : gS, Sz = ((S3.1, nz) : gS) := ⟨((S3.1, nz) : gS), rfl⟩
              rw [← eS17j] at hf hH
              refine vx_catch (own := RX0) (name := "java/lang/ClassCastException") hown [] ⟨45, 151, 152, 194⟩ [] (htb.trans rfl) lp0 (by decide) (by decide) (hts _ q870) (va_Nw.use rfl (hE.2.1.1 _ _ q882)) h1_17 h2_17 h3_17 ?_
              refine lv_astore (pc := 152) (i := 4) (lv' := [(4, .ref q17), (3, va_rf v9), (0, .ref l0), (1, .int l1), (2, .int l2)]) hx hb dX0_says_152 hl (by decide) (by simp [va_rf_cat, cat_i, cat_j, cat_r] <;> rfl) (fun ls hl => ?_)
              refine lv_aload_n (pc := 154) hx hb dX0_says_154 rfl (lv_at hl 2 rfl) ?_
              refine lv_bipush (pc := 155) (v := -83) hx hb dX0_says_155 gkbm83 ?_
              obtain ⟨_, ek18, hf⟩ := bdJ hf
              obtain ⟨v18, S18, c18, n18, c2_18, n2_18, e18, hf, hC18, hN18⟩ := gbJ hf
              refine g_callV (pc := 157) (o := (some l0)) (b := l0) (As := [.int (-83)]) (rest := []) (st1 := [.int v18]) hc (mX0_no hk hJ (l0 := l0) (l1 := (-83)) e18) (cwV 1 hts (lw_V q398 q400 qs2 q97 q401) rfl rfl rfl hdX0_no ⟨Nat.le_of_ble_eq_true rfl, Nat.le_of_ble_eq_true rfl⟩) (g_recv hE hk hH (ci := 0) (q := (RX0, TX0, 7)) rfl (chk_o ek18).choose_spec) rfl rfl hl.1 rfl rfl (lv_room (Nat.le_of_ble_eq_true rfl)) dX0_says_157 hH hS (by omega) (by omega) (fun H locs hH hS => ?_)
              have hkc : kc + c1 + c3 + 3 + c18 + c2_18 ≤ mc := by omega
              have hks : ks + n1 + n3 + 1010 + n18 + n2_18 ≤ ms := by omega
              exact g_iretJ (pc := 160) hx hb hr hlk hH hS hkc hks hf dX0_says_160
            · simp only [if_neg c17] at hf
              obtain ⟨_, e19, hf⟩ := bdJ hf
              refine g_castP (pc := 95) (o := v9) (d := 1) hx hb hts hown hE hk hH q884 e19 dX0_says_95 ?_
              obtain ⟨a20, ea20, hf⟩ := bdJ hf
              obtain ⟨v21, e21, hf⟩ := bdJ hf
              refine g_getF (pc := 98) (o := v9) (a := a20) (v := .int v21) hx hb hts hown hE hk hH (hts _ q1885) ea20 (rdFI_o e21) dX0_says_98 ?_
              refine lv_goto (pc := 101) (tgt := 151) hx hb dX0_says_101 (by decide) ?_
              exact g_iretJ (pc := 151) hx hb hr hlk hH hS hkc hks hf dX0_says_151
          · simp only [if_neg c11_1] at hf
            by_cases c11_2 : l2 = 2
            · simp only [if_pos c11_2] at hf
              refine lv_tableIn (pc := 46) (off := 58) (tgt := 104) hx hb dX0_says_46 (by rw [c11_2]; decide) (by rw [c11_2]; decide) (by rw [c11_2]; rfl) (by decide) ?_
              refine g_aload_n (pc := 104) (o := v9) hx hb dX0_says_104 rfl (lv_at hl 0 rfl) ?_
              obtain ⟨b22, e22, hf⟩ := bdJ hf
              by_cases c22 : b22 = false
              · simp only [if_pos c22] at hf
                obtain ⟨c2_22, n2_22, hf, hC22, hN22⟩ := adJ hf
                have hkc : kc + c1 + c3 + 3 + c2_22 ≤ mc := by omega
                have hks : ks + n1 + n3 + 1010 + n2_22 ≤ ms := by omega
                subst c22
                refine g_castX (pc := 105) (o := v9) (d := 2) hx hb hts hown hE hk hH (by decide) q885 e22 dX0_says_105 (fun tx ht1 ht2 => g_vm (nb := 990) (names := ["java/lang/RuntimeException", "java/lang/Exception"]) hc hst hk (by decide +kernel) (by decide +kernel) (by decide +kernel) (by decide +kernel) (atC hts hE) atC_g hl.1 ht1 ht2 (by decide) (by decide) (by simp [va_rf_cat, cat_i, cat_j, cat_r]) (by decide) (by omega) (by omega) hH hS (fun H q22 ce nz hnz hH hS h1_22 h2_22 h3_22 => ?_))
                have hf := swJ hnz hf
                obtain ⟨S22j, eS22j⟩ : ∃ Sz : gS, Sz = ((S3.1, nz) : gS) := ⟨((S3.1, nz) : gS), rfl⟩
                rw [← eS22j] at hf hH
                refine vx_catch (own := RX0) (name := "java/lang/ClassCastException") hown [] ⟨45, 151, 152, 194⟩ [] (htb.trans rfl) lp0 (by decide) (by decide) (hts _ q870) (va_Nw.use rfl (hE.2.1.1 _ _ q882)) h1_22 h2_22 h3_22 ?_
                refine lv_astore (pc := 152) (i := 4) (lv' := [(4, .ref q22), (3, va_rf v9), (0, .ref l0), (1, .int l1), (2, .int l2)]) hx hb dX0_says_152 hl (by decide) (by simp [va_rf_cat, cat_i, cat_j, cat_r] <;> rfl) (fun ls hl => ?_)
                refine lv_aload_n (pc := 154) hx hb dX0_says_154 rfl (lv_at hl 2 rfl) ?_
                refine lv_bipush (pc := 155) (v := -83) hx hb dX0_says_155 gkbm83 ?_
                obtain ⟨_, ek23, hf⟩ := bdJ hf
                obtain ⟨v23, S23, c23, n23, c2_23, n2_23, e23, hf, hC23, hN23⟩ := gbJ hf
                refine g_callV (pc := 157) (o := (some l0)) (b := l0) (As := [.int (-83)]) (rest := []) (st1 := [.int v23]) hc (mX0_no hk hJ (l0 := l0) (l1 := (-83)) e23) (cwV 1 hts (lw_V q398 q400 qs2 q97 q401) rfl rfl rfl hdX0_no ⟨Nat.le_of_ble_eq_true rfl, Nat.le_of_ble_eq_true rfl⟩) (g_recv hE hk hH (ci := 0) (q := (RX0, TX0, 7)) rfl (chk_o ek23).choose_spec) rfl rfl hl.1 rfl rfl (lv_room (Nat.le_of_ble_eq_true rfl)) dX0_says_157 hH hS (by omega) (by omega) (fun H locs hH hS => ?_)
                have hkc : kc + c1 + c3 + 3 + c23 + c2_23 ≤ mc := by omega
                have hks : ks + n1 + n3 + 1010 + n23 + n2_23 ≤ ms := by omega
                exact g_iretJ (pc := 160) hx hb hr hlk hH hS hkc hks hf dX0_says_160
              · simp only [if_neg c22] at hf
                obtain ⟨_, e24, hf⟩ := bdJ hf
                refine g_castP (pc := 105) (o := v9) (d := 2) hx hb hts hown hE hk hH q885 e24 dX0_says_105 ?_
                obtain ⟨a26, ea26, hf⟩ := bdJ hf
                obtain ⟨_, ek25, hf⟩ := bdJ hf
                obtain ⟨v25, S25, c25, n25, c2_25, n2_25, e25, hf, hC25, hN25⟩ := gbJ hf
                refine gP_causes (pc := 108) (o := v9) (b := a26) (As := []) (rest := []) (st1 := [.int v25]) hc hk hJ e25 ek25 q886 (Nat.le_of_ble_eq_true rfl) (Nat.le_of_ble_eq_true rfl) ea26 rfl hl.1 rfl rfl (lv_room (Nat.le_of_ble_eq_true rfl)) dX0_says_108 hH hS (by omega) (by omega) (fun H locs hH hS => ?_)
                have hkc : kc + c1 + c3 + c25 + c2_25 ≤ mc := by omega
                have hks : ks + n1 + n3 + n25 + n2_25 ≤ ms := by omega
                refine lv_goto (pc := 111) (tgt := 151) hx hb dX0_says_111 (by decide) ?_
                exact g_iretJ (pc := 151) hx hb hr hlk hH hS hkc hks hf dX0_says_151
            · simp only [if_neg c11_2] at hf
              by_cases c11_3 : l2 = 3
              · simp only [if_pos c11_3] at hf
                refine lv_tableIn (pc := 46) (off := 68) (tgt := 114) hx hb dX0_says_46 (by rw [c11_3]; decide) (by rw [c11_3]; decide) (by rw [c11_3]; rfl) (by decide) ?_
                refine g_aload_n (pc := 114) (o := v9) hx hb dX0_says_114 rfl (lv_at hl 0 rfl) ?_
                obtain ⟨b27, e27, hf⟩ := bdJ hf
                by_cases c27 : b27 = false
                · simp only [if_pos c27] at hf
                  obtain ⟨c2_27, n2_27, hf, hC27, hN27⟩ := adJ hf
                  have hkc : kc + c1 + c3 + 3 + c2_27 ≤ mc := by omega
                  have hks : ks + n1 + n3 + 1010 + n2_27 ≤ ms := by omega
                  subst c27
                  refine g_castX (pc := 115) (o := v9) (d := 11) hx hb hts hown hE hk hH (by decide) q895 e27 dX0_says_115 (fun tx ht1 ht2 => g_vm (nb := 990) (names := ["java/lang/RuntimeException", "java/lang/Exception"]) hc hst hk (by decide +kernel) (by decide +kernel) (by decide +kernel) (by decide +kernel) (atC hts hE) atC_g hl.1 ht1 ht2 (by decide) (by decide) (by simp [va_rf_cat, cat_i, cat_j, cat_r]) (by decide) (by omega) (by omega) hH hS (fun H q27 ce nz hnz hH hS h1_27 h2_27 h3_27 => ?_))
                  have hf := swJ hnz hf
                  obtain ⟨S27j, eS27j⟩ : ∃ Sz : gS, Sz = ((S3.1, nz) : gS) := ⟨((S3.1, nz) : gS), rfl⟩
                  rw [← eS27j] at hf hH
                  refine vx_catch (own := RX0) (name := "java/lang/ClassCastException") hown [] ⟨45, 151, 152, 194⟩ [] (htb.trans rfl) lp0 (by decide) (by decide) (hts _ q870) (va_Nw.use rfl (hE.2.1.1 _ _ q882)) h1_27 h2_27 h3_27 ?_
                  refine lv_astore (pc := 152) (i := 4) (lv' := [(4, .ref q27), (3, va_rf v9), (0, .ref l0), (1, .int l1), (2, .int l2)]) hx hb dX0_says_152 hl (by decide) (by simp [va_rf_cat, cat_i, cat_j, cat_r] <;> rfl) (fun ls hl => ?_)
                  refine lv_aload_n (pc := 154) hx hb dX0_says_154 rfl (lv_at hl 2 rfl) ?_
                  refine lv_bipush (pc := 155) (v := -83) hx hb dX0_says_155 gkbm83 ?_
                  obtain ⟨_, ek28, hf⟩ := bdJ hf
                  obtain ⟨v28, S28, c28, n28, c2_28, n2_28, e28, hf, hC28, hN28⟩ := gbJ hf
                  refine g_callV (pc := 157) (o := (some l0)) (b := l0) (As := [.int (-83)]) (rest := []) (st1 := [.int v28]) hc (mX0_no hk hJ (l0 := l0) (l1 := (-83)) e28) (cwV 1 hts (lw_V q398 q400 qs2 q97 q401) rfl rfl rfl hdX0_no ⟨Nat.le_of_ble_eq_true rfl, Nat.le_of_ble_eq_true rfl⟩) (g_recv hE hk hH (ci := 0) (q := (RX0, TX0, 7)) rfl (chk_o ek28).choose_spec) rfl rfl hl.1 rfl rfl (lv_room (Nat.le_of_ble_eq_true rfl)) dX0_says_157 hH hS (by omega) (by omega) (fun H locs hH hS => ?_)
                  have hkc : kc + c1 + c3 + 3 + c28 + c2_28 ≤ mc := by omega
                  have hks : ks + n1 + n3 + 1010 + n28 + n2_28 ≤ ms := by omega
                  exact g_iretJ (pc := 160) hx hb hr hlk hH hS hkc hks hf dX0_says_160
                · simp only [if_neg c27] at hf
                  obtain ⟨_, e29, hf⟩ := bdJ hf
                  refine g_cast (pc := 115) (o := v9) (ci := 11) (C := RX18) (T := TX18) (N := 5) hx hb hts hown hE hk hH rfl q895 e29 dX0_says_115 ?_
                  obtain ⟨a31, ea31, hf⟩ := bdJ hf
                  obtain ⟨_, ek30, hf⟩ := bdJ hf
                  obtain ⟨v30, S30, c30, n30, c2_30, n2_30, e30, hf, hC30, hN30⟩ := gbJ hf
                  refine g_callV (pc := 118) (o := v9) (b := a31) (As := []) (rest := []) (st1 := [.int v30]) hc (mX18_who hk hJ (l0 := a31) e30) (cwV 0 hts (lw_V q896 q897 q898 q146 q899) rfl rfl rfl hdX18_who ⟨Nat.le_of_ble_eq_true rfl, Nat.le_of_ble_eq_true rfl⟩) (g_recv hE hk hH (ci := 11) (q := (RX18, TX18, 5)) rfl (chk_o ek30).choose_spec) ea31 rfl hl.1 rfl rfl (lv_room (Nat.le_of_ble_eq_true rfl)) dX0_says_118 hH hS (by omega) (by omega) (fun H locs hH hS => ?_)
                  have hkc : kc + c1 + c3 + c30 + c2_30 ≤ mc := by omega
                  have hks : ks + n1 + n3 + n30 + n2_30 ≤ ms := by omega
                  refine lv_goto (pc := 121) (tgt := 151) hx hb dX0_says_121 (by decide) ?_
                  exact g_iretJ (pc := 151) hx hb hr hlk hH hS hkc hks hf dX0_says_151
              · simp only [if_neg c11_3] at hf
                by_cases c11_4 : l2 = 4
                · simp only [if_pos c11_4] at hf
                  refine lv_tableIn (pc := 46) (off := 78) (tgt := 124) hx hb dX0_says_46 (by rw [c11_4]; decide) (by rw [c11_4]; decide) (by rw [c11_4]; rfl) (by decide) ?_
                  refine g_aload_n (pc := 124) (o := v9) hx hb dX0_says_124 rfl (lv_at hl 0 rfl) ?_
                  obtain ⟨b32, e32, hf⟩ := bdJ hf
                  by_cases c32 : b32 = false
                  · simp only [if_pos c32] at hf
                    obtain ⟨c2_32, n2_32, hf, hC32, hN32⟩ := adJ hf
                    have hkc : kc + c1 + c3 + 3 + c2_32 ≤ mc := by omega
                    have hks : ks + n1 + n3 + 1010 + n2_32 ≤ ms := by omega
                    subst c32
                    refine g_castX (pc := 125) (o := v9) (d := 12) hx hb hts hown hE hk hH (by decide) q900 e32 dX0_says_125 (fun tx ht1 ht2 => g_vm (nb := 990) (names := ["java/lang/RuntimeException", "java/lang/Exception"]) hc hst hk (by decide +kernel) (by decide +kernel) (by decide +kernel) (by decide +kernel) (atC hts hE) atC_g hl.1 ht1 ht2 (by decide) (by decide) (by simp [va_rf_cat, cat_i, cat_j, cat_r]) (by decide) (by omega) (by omega) hH hS (fun H q32 ce nz hnz hH hS h1_32 h2_32 h3_32 => ?_))
                    have hf := swJ hnz hf
                    obtain ⟨S32j, eS32j⟩ : ∃ Sz : gS, Sz = ((S3.1, nz) : gS) := ⟨((S3.1, nz) : gS), rfl⟩
                    rw [← eS32j] at hf hH
                    refine vx_catch (own := RX0) (name := "java/lang/ClassCastException") hown [] ⟨45, 151, 152, 194⟩ [] (htb.trans rfl) lp0 (by decide) (by decide) (hts _ q870) (va_Nw.use rfl (hE.2.1.1 _ _ q882)) h1_32 h2_32 h3_32 ?_
                    refine lv_astore (pc := 152) (i := 4) (lv' := [(4, .ref q32), (3, va_rf v9), (0, .ref l0), (1, .int l1), (2, .int l2)]) hx hb dX0_says_152 hl (by decide) (by simp [va_rf_cat, cat_i, cat_j, cat_r] <;> rfl) (fun ls hl => ?_)
                    refine lv_aload_n (pc := 154) hx hb dX0_says_154 rfl (lv_at hl 2 rfl) ?_
                    refine lv_bipush (pc := 155) (v := -83) hx hb dX0_says_155 gkbm83 ?_
                    obtain ⟨_, ek33, hf⟩ := bdJ hf
                    obtain ⟨v33, S33, c33, n33, c2_33, n2_33, e33, hf, hC33, hN33⟩ := gbJ hf
                    refine g_callV (pc := 157) (o := (some l0)) (b := l0) (As := [.int (-83)]) (rest := []) (st1 := [.int v33]) hc (mX0_no hk hJ (l0 := l0) (l1 := (-83)) e33) (cwV 1 hts (lw_V q398 q400 qs2 q97 q401) rfl rfl rfl hdX0_no ⟨Nat.le_of_ble_eq_true rfl, Nat.le_of_ble_eq_true rfl⟩) (g_recv hE hk hH (ci := 0) (q := (RX0, TX0, 7)) rfl (chk_o ek33).choose_spec) rfl rfl hl.1 rfl rfl (lv_room (Nat.le_of_ble_eq_true rfl)) dX0_says_157 hH hS (by omega) (by omega) (fun H locs hH hS => ?_)
                    have hkc : kc + c1 + c3 + 3 + c33 + c2_33 ≤ mc := by omega
                    have hks : ks + n1 + n3 + 1010 + n33 + n2_33 ≤ ms := by omega
                    exact g_iretJ (pc := 160) hx hb hr hlk hH hS hkc hks hf dX0_says_160
                  · simp only [if_neg c32] at hf
                    obtain ⟨_, e34, hf⟩ := bdJ hf
                    refine g_cast (pc := 125) (o := v9) (ci := 12) (C := RX19) (T := TX19) (N := 5) hx hb hts hown hE hk hH rfl q900 e34 dX0_says_125 ?_
                    obtain ⟨a36, ea36, hf⟩ := bdJ hf
                    obtain ⟨_, ek35, hf⟩ := bdJ hf
                    obtain ⟨v35, S35, c35, n35, c2_35, n2_35, e35, hf, hC35, hN35⟩ := gbJ hf
                    refine g_callV (pc := 128) (o := v9) (b := a36) (As := []) (rest := []) (st1 := [.int v35]) hc (mX19_who hk hJ (l0 := a36) e35) (cwV 0 hts (lw_V q901 q902 q903 q147 q904) rfl rfl rfl hdX19_who ⟨Nat.le_of_ble_eq_true rfl, Nat.le_of_ble_eq_true rfl⟩) (g_recv hE hk hH (ci := 12) (q := (RX19, TX19, 5)) rfl (chk_o ek35).choose_spec) ea36 rfl hl.1 rfl rfl (lv_room (Nat.le_of_ble_eq_true rfl)) dX0_says_128 hH hS (by omega) (by omega) (fun H locs hH hS => ?_)
                    have hkc : kc + c1 + c3 + c35 + c2_35 ≤ mc := by omega
                    have hks : ks + n1 + n3 + n35 + n2_35 ≤ ms := by omega
                    refine lv_goto (pc := 131) (tgt := 151) hx hb dX0_says_131 (by decide) ?_
                    exact g_iretJ (pc := 151) hx hb hr hlk hH hS hkc hks hf dX0_says_151
                · simp only [if_neg c11_4] at hf
                  by_cases c11_5 : l2 = 5
                  · simp only [if_pos c11_5] at hf
                    refine lv_tableIn (pc := 46) (off := 88) (tgt := 134) hx hb dX0_says_46 (by rw [c11_5]; decide) (by rw [c11_5]; decide) (by rw [c11_5]; rfl) (by decide) ?_
                    refine g_aload_n (pc := 134) (o := v9) hx hb dX0_says_134 rfl (lv_at hl 0 rfl) ?_
                    obtain ⟨b37, e37, hf⟩ := bdJ hf
                    by_cases c37 : b37 = false
                    · simp only [if_pos c37] at hf
                      obtain ⟨c2_37, n2_37, hf, hC37, hN37⟩ := adJ hf
                      have hkc : kc + c1 + c3 + 3 + c2_37 ≤ mc := by omega
                      have hks : ks + n1 + n3 + 1010 + n2_37 ≤ ms := by omega
                      subst c37
                      refine g_castX (pc := 135) (o := v9) (d := 13) hx hb hts hown hE hk hH (by decide) q905 e37 dX0_says_135 (fun tx ht1 ht2 => g_vm (nb := 990) (names := ["java/lang/RuntimeException", "java/lang/Exception"]) hc hst hk (by decide +kernel) (by decide +kernel) (by decide +kernel) (by decide +kernel) (atC hts hE) atC_g hl.1 ht1 ht2 (by decide) (by decide) (by simp [va_rf_cat, cat_i, cat_j, cat_r]) (by decide) (by omega) (by omega) hH hS (fun H q37 ce nz hnz hH hS h1_37 h2_37 h3_37 => ?_))
                      have hf := swJ hnz hf
                      obtain ⟨S37j, eS37j⟩ : ∃ Sz : gS, Sz = ((S3.1, nz) : gS) := ⟨((S3.1, nz) : gS), rfl⟩
                      rw [← eS37j] at hf hH
                      refine vx_catch (own := RX0) (name := "java/lang/ClassCastException") hown [] ⟨45, 151, 152, 194⟩ [] (htb.trans rfl) lp0 (by decide) (by decide) (hts _ q870) (va_Nw.use rfl (hE.2.1.1 _ _ q882)) h1_37 h2_37 h3_37 ?_
                      refine lv_astore (pc := 152) (i := 4) (lv' := [(4, .ref q37), (3, va_rf v9), (0, .ref l0), (1, .int l1), (2, .int l2)]) hx hb dX0_says_152 hl (by decide) (by simp [va_rf_cat, cat_i, cat_j, cat_r] <;> rfl) (fun ls hl => ?_)
                      refine lv_aload_n (pc := 154) hx hb dX0_says_154 rfl (lv_at hl 2 rfl) ?_
                      refine lv_bipush (pc := 155) (v := -83) hx hb dX0_says_155 gkbm83 ?_
                      obtain ⟨_, ek38, hf⟩ := bdJ hf
                      obtain ⟨v38, S38, c38, n38, c2_38, n2_38, e38, hf, hC38, hN38⟩ := gbJ hf
                      refine g_callV (pc := 157) (o := (some l0)) (b := l0) (As := [.int (-83)]) (rest := []) (st1 := [.int v38]) hc (mX0_no hk hJ (l0 := l0) (l1 := (-83)) e38) (cwV 1 hts (lw_V q398 q400 qs2 q97 q401) rfl rfl rfl hdX0_no ⟨Nat.le_of_ble_eq_true rfl, Nat.le_of_ble_eq_true rfl⟩) (g_recv hE hk hH (ci := 0) (q := (RX0, TX0, 7)) rfl (chk_o ek38).choose_spec) rfl rfl hl.1 rfl rfl (lv_room (Nat.le_of_ble_eq_true rfl)) dX0_says_157 hH hS (by omega) (by omega) (fun H locs hH hS => ?_)
                      have hkc : kc + c1 + c3 + 3 + c38 + c2_38 ≤ mc := by omega
                      have hks : ks + n1 + n3 + 1010 + n38 + n2_38 ≤ ms := by omega
                      exact g_iretJ (pc := 160) hx hb hr hlk hH hS hkc hks hf dX0_says_160
                    · simp only [if_neg c37] at hf
                      obtain ⟨_, e39, hf⟩ := bdJ hf
                      refine g_cast (pc := 135) (o := v9) (ci := 13) (C := RX20) (T := TX20) (N := 4) hx hb hts hown hE hk hH rfl q905 e39 dX0_says_135 ?_
                      obtain ⟨a41, ea41, hf⟩ := bdJ hf
                      obtain ⟨_, ek40, hf⟩ := bdJ hf
                      obtain ⟨v40, S40, c40, n40, c2_40, n2_40, e40, hf, hC40, hN40⟩ := gbJ hf
                      refine g_callV (pc := 138) (o := v9) (b := a41) (As := []) (rest := []) (st1 := [.int v40]) hc (mX20_age hk hJ (l0 := a41) e40) (cwV 0 hts (lw_V q906 q907 q908 q148 q909) rfl rfl rfl hdX20_age ⟨Nat.le_of_ble_eq_true rfl, Nat.le_of_ble_eq_true rfl⟩) (g_recv hE hk hH (ci := 13) (q := (RX20, TX20, 4)) rfl (chk_o ek40).choose_spec) ea41 rfl hl.1 rfl rfl (lv_room (Nat.le_of_ble_eq_true rfl)) dX0_says_138 hH hS (by omega) (by omega) (fun H locs hH hS => ?_)
                      have hkc : kc + c1 + c3 + c40 + c2_40 ≤ mc := by omega
                      have hks : ks + n1 + n3 + n40 + n2_40 ≤ ms := by omega
                      refine lv_goto (pc := 141) (tgt := 151) hx hb dX0_says_141 (by decide) ?_
                      exact g_iretJ (pc := 151) hx hb hr hlk hH hS hkc hks hf dX0_says_151
                  · simp only [if_neg c11_5] at hf
                    refine lv_tableOut (pc := 46) (tgt := 144) hx hb dX0_says_46 (tsw5 c11_0 c11_1 c11_2 c11_3 c11_4 c11_5) (by decide) ?_
                    refine g_aload_n (pc := 144) (o := v9) hx hb dX0_says_144 rfl (lv_at hl 0 rfl) ?_
                    obtain ⟨b42, e42, hf⟩ := bdJ hf
                    by_cases c42 : b42 = false
                    · simp only [if_pos c42] at hf
                      obtain ⟨c2_42, n2_42, hf, hC42, hN42⟩ := adJ hf
                      have hkc : kc + c1 + c3 + 3 + c2_42 ≤ mc := by omega
                      have hks : ks + n1 + n3 + 1010 + n2_42 ≤ ms := by omega
                      subst c42
                      refine g_castX (pc := 145) (o := v9) (d := 14) hx hb hts hown hE hk hH (by decide) q910 e42 dX0_says_145 (fun tx ht1 ht2 => g_vm (nb := 990) (names := ["java/lang/RuntimeException", "java/lang/Exception"]) hc hst hk (by decide +kernel) (by decide +kernel) (by decide +kernel) (by decide +kernel) (atC hts hE) atC_g hl.1 ht1 ht2 (by decide) (by decide) (by simp [va_rf_cat, cat_i, cat_j, cat_r]) (by decide) (by omega) (by omega) hH hS (fun H q42 ce nz hnz hH hS h1_42 h2_42 h3_42 => ?_))
                      have hf := swJ hnz hf
                      obtain ⟨S42j, eS42j⟩ : ∃ Sz : gS, Sz = ((S3.1, nz) : gS) := ⟨((S3.1, nz) : gS), rfl⟩
                      rw [← eS42j] at hf hH
                      refine vx_catch (own := RX0) (name := "java/lang/ClassCastException") hown [] ⟨45, 151, 152, 194⟩ [] (htb.trans rfl) lp0 (by decide) (by decide) (hts _ q870) (va_Nw.use rfl (hE.2.1.1 _ _ q882)) h1_42 h2_42 h3_42 ?_
                      refine lv_astore (pc := 152) (i := 4) (lv' := [(4, .ref q42), (3, va_rf v9), (0, .ref l0), (1, .int l1), (2, .int l2)]) hx hb dX0_says_152 hl (by decide) (by simp [va_rf_cat, cat_i, cat_j, cat_r] <;> rfl) (fun ls hl => ?_)
                      refine lv_aload_n (pc := 154) hx hb dX0_says_154 rfl (lv_at hl 2 rfl) ?_
                      refine lv_bipush (pc := 155) (v := -83) hx hb dX0_says_155 gkbm83 ?_
                      obtain ⟨_, ek43, hf⟩ := bdJ hf
                      obtain ⟨v43, S43, c43, n43, c2_43, n2_43, e43, hf, hC43, hN43⟩ := gbJ hf
                      refine g_callV (pc := 157) (o := (some l0)) (b := l0) (As := [.int (-83)]) (rest := []) (st1 := [.int v43]) hc (mX0_no hk hJ (l0 := l0) (l1 := (-83)) e43) (cwV 1 hts (lw_V q398 q400 qs2 q97 q401) rfl rfl rfl hdX0_no ⟨Nat.le_of_ble_eq_true rfl, Nat.le_of_ble_eq_true rfl⟩) (g_recv hE hk hH (ci := 0) (q := (RX0, TX0, 7)) rfl (chk_o ek43).choose_spec) rfl rfl hl.1 rfl rfl (lv_room (Nat.le_of_ble_eq_true rfl)) dX0_says_157 hH hS (by omega) (by omega) (fun H locs hH hS => ?_)
                      have hkc : kc + c1 + c3 + 3 + c43 + c2_43 ≤ mc := by omega
                      have hks : ks + n1 + n3 + 1010 + n43 + n2_43 ≤ ms := by omega
                      exact g_iretJ (pc := 160) hx hb hr hlk hH hS hkc hks hf dX0_says_160
                    · simp only [if_neg c42] at hf
                      obtain ⟨_, e44, hf⟩ := bdJ hf
                      refine g_cast (pc := 145) (o := v9) (ci := 14) (C := RX14) (T := TX14) (N := 4) hx hb hts hown hE hk hH rfl q910 e44 dX0_says_145 ?_
                      obtain ⟨a46, ea46, hf⟩ := bdJ hf
                      obtain ⟨_, ek45, hf⟩ := bdJ hf
                      obtain ⟨v45, S45, c45, n45, c2_45, n2_45, e45, hf, hC45, hN45⟩ := gbJ hf
                      refine g_callV (pc := 148) (o := v9) (b := a46) (As := []) (rest := []) (st1 := [.int v45]) hc (mX14_limit hk hJ (l0 := a46) e45) (cwV 0 hts (lw_V q911 q912 q913 q141 q914) rfl rfl rfl hdX14_limit ⟨Nat.le_of_ble_eq_true rfl, Nat.le_of_ble_eq_true rfl⟩) (g_recv hE hk hH (ci := 14) (q := (RX14, TX14, 4)) rfl (chk_o ek45).choose_spec) ea46 rfl hl.1 rfl rfl (lv_room (Nat.le_of_ble_eq_true rfl)) dX0_says_148 hH hS (by omega) (by omega) (fun H locs hH hS => ?_)
                      have hkc : kc + c1 + c3 + c45 + c2_45 ≤ mc := by omega
                      have hks : ks + n1 + n3 + n45 + n2_45 ≤ ms := by omega
                      exact g_iretJ (pc := 151) hx hb hr hlk hH hS hkc hks hf dX0_says_151
      · simp only [if_pos c10] at hf
        refine lv_aload_n (pc := 38) hx hb dX0_says_38 rfl (lv_at hl 1 rfl) ?_
        refine lv_bipush (pc := 39) (v := -84) hx hb dX0_says_39 gkbm84 ?_
        obtain ⟨_, ek47, hf⟩ := bdJ hf
        obtain ⟨v47, S47, c47, n47, c2_47, n2_47, e47, hf, hC47, hN47⟩ := gbJ hf
        refine g_callV (pc := 41) (o := (some l0)) (b := l0) (As := [.int (-84)]) (rest := []) (st1 := [.int v47]) hc (mX0_no hk hJ (l0 := l0) (l1 := (-84)) e47) (cwV 1 hts (lw_V q398 q400 qs2 q97 q401) rfl rfl rfl hdX0_no ⟨Nat.le_of_ble_eq_true rfl, Nat.le_of_ble_eq_true rfl⟩) (g_recv hE hk hH (ci := 0) (q := (RX0, TX0, 7)) rfl (chk_o ek47).choose_spec) rfl rfl hl.1 rfl rfl (lv_room (Nat.le_of_ble_eq_true rfl)) dX0_says_41 hH hS (by omega) (by omega) (fun H locs hH hS => ?_)
        have hkc : kc + c1 + c3 + c47 + c2_47 ≤ mc := by omega
        have hks : ks + n1 + n3 + n47 + n2_47 ≤ ms := by omega
        exact g_iretJ (pc := 44) hx hb hr hlk hH hS hkc hks hf dX0_says_44
    · simp only [if_pos c4] at hf
      exact wX0_says_b17 hk hJ hst htb hc l0 S3 _ _ ls _ _ _ _ hkc hks hH hS (lv_sub hl [0] rfl) hf
theorem mX0_says {l : Launch} {G : gG} {Rp : gM → gM → Nat → Prop} (hk : rOK Rp) (hJ : JDK l G Rp) (hst : l.stackTraces = false) {S : gS} {C N : Nat} {l0 : Nat} {l1 : Int32} {l2 : Int32} {P : Int32 ⊕ gTh → gS → Prop} (hf : ∀ j : Nat, oky C N (fX0_says j l0 l1 l2 S) P) : gMetJ l yX0_says (wsW_ yX0_says cX0_says 5 (some .int) [(45, 151, 152, 194)]) 12 10500 G Rp [.ref l0, .int l1, .int l2] S iI P C N := by
  refine g_startJW (by decide) (Nat.le_of_ble_eq_true rfl) (fun p e s m args below meth c ls hc htb hl hH => ?_)
  have hl : lv_has ls 5 [(0, .ref l0), (1, .int l1), (2, .int l2)] := hl
  exact wX0_says_b0 hk hJ hst htb hc l0 l1 l2 S _ _ ls 0 0 C N (by omega) (by omega) hH va_S.rf (lv_sub hl [0, 1, 2] rfl) hf
end
end
