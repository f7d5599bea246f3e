/-! printed by gen/cgen.py: methods of the component, lifted and walked (3) -/
set_option maxRecDepth 100000
set_option maxHeartbeats 4000000
section
variable {p : Program} {l : Launch} {e : Env} {s : State} {m : MethodId} {args : Array Value} {below : List Frame} {meth : Method} {c : Code} {G : gG} {Rp : gM → gM → Nat → Prop} {mc ms : Nat}
section
variable {r : Int32} {Sf : gS}
def fdkind (b : Nat) (S : gS) : gO Int32 := match clsO S b with
  | some 11 => fX18_kind b S
  | some 12 => fX19_kind b S
  | some 13 => fX20_kind b S
  | some 14 => fX14_kind b S
  | _ => none
section
variable {p : Program} {l : Launch} {e : Env} {s : State} {m : MethodId} {args : Array Value} {below : List Frame} {meth : Method} {c : Code} {G : gG} {Rp : gM → gM → Nat → Prop} {R : Room} {H : Heap} {locs : List Loc} {Q : State → Prop} {cc : ByteArray} {ls : Array Slot} {rest : List Value} {pc : Nat} {kc ks : Nat}
theorem gP_kind {own nm : String} {nL fr lo index C9 N mc ms b : Nat} {o : Option Nat} {ret' : Option FieldType} {As st0 st1 : List Value} {S S2 : gS} {v : Int32} {u : Unit} (hc : gC p s m args meth c G own nm cc nL ret') (hk : rOK Rp) (hJ : JDK l G Rp) (e1 : fdkind b S = some (v, S2, C9, N)) (ec : ckP S (some b) 0 = some u) (hl : Cond.methodLink own index (⟨"CreditBroker$Cause", "kind", "()I"⟩ : MethodName) ∈ lw_all) (hfr : 4 ≤ fr) (hlo : 100 ≤ lo) (eo : o = some b) (hn : As = []) (hsize : ls.size = nL) (hst0 : st0 = As.reverse ++ va_rf o :: rest) (hst : (some (.int v)).toList ++ rest = st1) (hW : 2 * (F0 m pc ls st0).monitorRoom + (rest.map fun v => v.category).sum ≤ 8) (hdg : decode cc pc = .ok (.invokevirtual index, 3)) (hH : hp G Rp S H) (hS : va_S G.2.2.2 s.heap H locs) (hkc : kc + C9 ≤ mc) (hks : ks + N ≤ ms)
    (kk : ∀ (H1 : Heap) (locs1 : List Loc), hp G Rp S2 H1 → va_S G.2.2.2 s.heap H1 locs1 → W p l e (gR fr lo mc ms) s m args below meth c H1 locs1 (kc + C9) (ks + N) Q (F0 m (pc + 3) ls st1)) : W p l e (gR fr lo mc ms) s m args below meth c H locs kc ks Q (F0 m pc ls st0) := by
  subst hn
  obtain ⟨hx, hb, hr, hlk, hml, hown, hts, hE, hA, hnm⟩ := hc
  have hc : gC p s m args meth c G own nm cc nL ret' := ⟨hx, hb, hr, hlk, hml, hown, hts, hE, hA, hnm⟩
  obtain ⟨ci, fs, h9, h8⟩ := ckP_o ec
  have hcls : clsO S b = some ci := by unfold clsO; rw [h8]
  unfold fdkind at e1
  rw [hcls] at e1
  rcases inD_c h9 with rfl | rfl | rfl | rfl
  · exact g_callU (x := (⟨"CreditBroker$Cause", "kind", "()I"⟩ : MethodName)) (C := "CreditBroker$Rejected") (As := []) hc (mX18_kind hk hJ (l0 := b) e1) (va_cwO (owner := "CreditBroker$Cause") 0 hts (lw_app (lw_of6 hl q534 q533 q559 q560 q146) (lw_meth q561)) rfl rfl rfl q544 (by decide +kernel) ⟨(Nat.le_trans (Nat.le_of_ble_eq_true rfl) hfr), (Nat.le_trans (Nat.le_of_ble_eq_true rfl) hlo)⟩) (g_recv hE hk hH (ci := 11) (q := (RX18, TX18, 5)) rfl h8) eo rfl hsize hst0 hst hW hdg hH hS hkc hks kk
  · exact g_callU (x := (⟨"CreditBroker$Cause", "kind", "()I"⟩ : MethodName)) (C := "CreditBroker$Late") (As := []) hc (mX19_kind hk hJ (l0 := b) e1) (va_cwO (owner := "CreditBroker$Cause") 0 hts (lw_app (lw_of6 hl q534 q533 q535 q536 q147) (lw_meth q537)) rfl rfl rfl q544 (by decide +kernel) ⟨(Nat.le_trans (Nat.le_of_ble_eq_true rfl) hfr), (Nat.le_trans (Nat.le_of_ble_eq_true rfl) hlo)⟩) (g_recv hE hk hH (ci := 12) (q := (RX19, TX19, 5)) rfl h8) eo rfl hsize hst0 hst hW hdg hH hS hkc hks kk
  · exact g_callU (x := (⟨"CreditBroker$Cause", "kind", "()I"⟩ : MethodName)) (C := "CreditBroker$Old") (As := []) hc (mX20_kind hk hJ (l0 := b) e1) (va_cwO (owner := "CreditBroker$Cause") 0 hts (lw_app (lw_of6 hl q534 q533 q545 q546 q148) (lw_meth q547)) rfl rfl rfl q544 (by decide +kernel) ⟨(Nat.le_trans (Nat.le_of_ble_eq_true rfl) hfr), (Nat.le_trans (Nat.le_of_ble_eq_true rfl) hlo)⟩) (g_recv hE hk hH (ci := 13) (q := (RX20, TX20, 4)) rfl h8) eo rfl hsize hst0 hst hW hdg hH hS hkc hks kk
  · exact g_callU (x := (⟨"CreditBroker$Cause", "kind", "()I"⟩ : MethodName)) (C := "CreditBroker$Overfull") (As := []) hc (mX14_kind hk hJ (l0 := b) e1) (va_cwO (owner := "CreditBroker$Cause") 0 hts (lw_app (lw_of6 hl q534 q533 q554 q555 q141) (lw_meth q556)) rfl rfl rfl q544 (by decide +kernel) ⟨(Nat.le_trans (Nat.le_of_ble_eq_true rfl) hfr), (Nat.le_trans (Nat.le_of_ble_eq_true rfl) hlo)⟩) (g_recv hE hk hH (ci := 14) (q := (RX14, TX14, 4)) rfl h8) eo rfl hsize hst0 hst hW hdg hH hS hkc hks kk
end
end
section
variable {r : Int32} {Sf : gS}
def fX0_cause_b18 (l0 : Nat) (S : gS) : gO Int32 :=
  bd (chk S l0 0) fun _ =>
  gb (fX0_no l0 (-82) S) fun v1 S1 =>
  some (v1, S1, 0, 0)
theorem wX0_cause_b18 (hk : rOK Rp) (hJ : JDK l G Rp) (hc : gC p s m args meth c G RX0 "cause" cX0_cause 5 (some .int)) (l0 : Nat) (S : gS) (H : Heap) (locs : List Loc) (ls : Array Slot) (kc ks C N : Nat) (hkc : kc + C ≤ mc) (hks : ks + N ≤ ms) (hH : hp G Rp S H) (hS : va_S G.2.2.2 s.heap H locs) (hl : lv_has ls 5 [(0, .ref l0)]) (hf : fX0_cause_b18 l0 S = some (r, Sf, C, N)) : W p l e (gR 65 1405 mc ms) s m args below meth c H locs kc ks (gQ below G Rp (some (.int r)) Sf args s mc ms) (F0 m 18 ls []) := by
  obtain ⟨hx, hb, hr, hlk, hml, hown, hts, hE, hA, hnm⟩ := hc
  have hc : gC p s m args meth c G RX0 "cause" cX0_cause 5 (some .int) := ⟨hx, hb, hr, hlk, hml, hown, hts, hE, hA, hnm⟩
  unfold fX0_cause_b18 at hf
  refine lv_aload_n (pc := 18) hx hb dX0_cause_18 rfl (lv_at hl 0 rfl) ?_
  refine lv_bipush (pc := 19) (v := -82) hx hb dX0_cause_19 gkbm82 ?_
  obtain ⟨_, ek1, hf⟩ := bdo hf
  obtain ⟨v1, S1, c1, n1, c2_1, n2_1, e1, hf, hC1, hN1⟩ := gbo hf
  refine g_callV (pc := 21) (o := (some l0)) (b := l0) (As := [.int (-82)]) (rest := []) (st1 := [.int v1]) hc (mX0_no hk hJ (l0 := l0) (l1 := (-82)) e1) (cwV 1 hts (lw_V q398 q400 qs2 q97 q401) rfl rfl rfl hdX0_no ⟨Nat.le_of_ble_eq_true rfl, Nat.le_of_ble_eq_true rfl⟩) (g_recv hE hk hH (ci := 0) (q := (RX0, TX0, 7)) rfl (chk_o ek1).choose_spec) rfl rfl hl.1 rfl rfl (lv_room (Nat.le_of_ble_eq_true rfl)) dX0_cause_21 hH hS (by omega) (by omega) (fun H locs hH hS => ?_)
  have hkc : kc + c1 + c2_1 ≤ mc := by omega
  have hks : ks + n1 + n2_1 ≤ ms := by omega
  exact g_iret (pc := 24) hx hb hr hlk hH hS hkc hks hf dX0_cause_24
def fX0_cause (l0 : Nat) (l1 : Int32) (l2 : Int32) (l3 : Int32) (S : gS) : gO Int32 :=
  bd (chk S l0 0) fun _ =>
  gb (fX0_isLink l0 l1 l2 S) fun v1 S1 =>
  if v1 = 0 then
    fX0_cause_b18 l0 S1
  else
    gb (fX0_isIn l3 (nI 0) (nI 1) S1) fun v3 S3 =>
    if v3 = 0 then
      fX0_cause_b18 l0 S3
    else
      bd (rdR S3 l0 0 0) fun v5 =>
      bd v5 fun a6 =>
      bd (rdR S3 a6 1 3) fun v7 =>
      bd v7 fun a9 =>
      gb (nLL_get a9 l1 S3) fun v8 S8 =>
      bd (ckc S8 v8 7) fun _ =>
      bd v8 fun a11 =>
      bd (rdR S8 a11 7 3) fun v12 =>
      bd v12 fun a14 =>
      bd (ckP S8 (some a14) 0) fun _ =>
      gb (fX12_link LK a14 l2 S8) fun v13 S13 =>
      if l3 = 0 then
        bd v13 fun a19 =>
        bd (ckP S13 (some a19) 0) fun _ =>
        gb (fdkind a19 S13) fun v18 S18 =>
        some (v18, S18, 0, 0)
      else
        bd v13 fun a16 =>
        bd (rdPI S13 a16 0) fun v17 =>
        some (v17, S13, 0, 0)
theorem wX0_cause_b0 (hk : rOK Rp) (hJ : JDK l G Rp) (hc : gC p s m args meth c G RX0 "cause" cX0_cause 5 (some .int)) (l0 : Nat) (l1 : Int32) (l2 : Int32) (l3 : Int32) (S : gS) (H : Heap) (locs : List Loc) (ls : Array Slot) (kc ks C N : Nat) (hkc : kc + C ≤ mc) (hks : ks + N ≤ ms) (hH : hp G Rp S H) (hS : va_S G.2.2.2 s.heap H locs) (hl : lv_has ls 5 [(0, .ref l0), (1, .int l1), (2, .int l2), (3, .int l3)]) (hf : fX0_cause l0 l1 l2 l3 S = some (r, Sf, C, N)) : W p l e (gR 65 1405 mc ms) s m args below meth c H locs kc ks (gQ below G Rp (some (.int r)) Sf args s mc ms) (F0 m 0 ls []) := by
  obtain ⟨hx, hb, hr, hlk, hml, hown, hts, hE, hA, hnm⟩ := hc
  have hc : gC p s m args meth c G RX0 "cause" cX0_cause 5 (some .int) := ⟨hx, hb, hr, hlk, hml, hown, hts, hE, hA, hnm⟩
  unfold fX0_cause at hf
  refine lv_aload_n (pc := 0) hx hb dX0_cause_0 rfl (lv_at hl 0 rfl) ?_
  refine lv_iload_n (pc := 1) hx hb dX0_cause_1 rfl (lv_at hl 1 rfl) ?_
  refine lv_iload_n (pc := 2) hx hb dX0_cause_2 rfl (lv_at hl 2 rfl) ?_
  obtain ⟨_, ek1, hf⟩ := bdo hf
  obtain ⟨v1, S1, c1, n1, c2_1, n2_1, e1, hf, hC1, hN1⟩ := gbo hf
  refine g_callV (pc := 3) (o := (some l0)) (b := l0) (As := [.int l1, .int l2]) (rest := []) (st1 := [.int v1]) hc (mX0_isLink hk hJ (l0 := l0) (l1 := l1) (l2 := l2) e1) (cwV 2 hts (lw_V q568 q570 qs4 q97 q571) rfl rfl rfl hdX0_isLink ⟨Nat.le_of_ble_eq_true rfl, Nat.le_of_ble_eq_true rfl⟩) (g_recv hE hk hH (ci := 0) (q := (RX0, TX0, 7)) rfl (chk_o ek1).choose_spec) rfl rfl hl.1 rfl rfl (lv_room (Nat.le_of_ble_eq_true rfl)) dX0_cause_3 hH hS (by omega) (by omega) (fun H locs hH hS => ?_)
  have hkc : kc + c1 + c2_1 ≤ mc := by omega
  have hks : ks + n1 + n2_1 ≤ ms := by omega
  refine lv_if_eq (pc := 6) (tgt := 18) hx hb dX0_cause_6 (by decide) (fun c2 => ?_) (fun c2 => ?_)
  · rw [if_pos c2] at hf
    exact wX0_cause_b18 hk hJ hc l0 S1 _ _ ls _ _ _ _ hkc hks hH hS (lv_sub hl [0] rfl) hf
  · rw [if_neg c2] at hf
    refine lv_iload_n (pc := 9) hx hb dX0_cause_9 rfl (lv_at hl 3 rfl) ?_
    refine lv_iconst (pc := 10) (v := nI 0) hx hb dX0_cause_10 rfl ?_
    refine lv_iconst (pc := 11) (v := nI 1) hx hb dX0_cause_11 rfl ?_
    obtain ⟨v3, S3, c3, n3, c2_3, n2_3, e3, hf, hC3, hN3⟩ := gbo hf
    refine g_callS (pc := 12) (As := [.int l3, .int (nI 0), .int (nI 1)]) (rest := []) (st1 := [.int v3]) hc (mX0_isIn hk hJ (l0 := l3) (l1 := (nI 0)) (l2 := (nI 1)) e3) (va_cwS 3 hts (lw_S q395 q396 q97 q397) rfl rfl rfl hdX0_isIn ⟨Nat.le_of_ble_eq_true rfl, Nat.le_of_ble_eq_true rfl⟩) rfl hl.1 rfl rfl (lv_room (Nat.le_of_ble_eq_true rfl)) dX0_cause_12 hH hS (by omega) (by omega) (fun H locs hH hS => ?_)
    have hkc : kc + c1 + c3 + c2_3 ≤ mc := by omega
    have hks : ks + n1 + n3 + n2_3 ≤ ms := by omega
    refine lv_if_ne (pc := 15) (tgt := 25) hx hb dX0_cause_15 (by decide) (fun c4 => ?_) (fun c4 => ?_)
    · rw [if_neg c4] at hf
      refine lv_aload_n (pc := 25) hx hb dX0_cause_25 rfl (lv_at hl 0 rfl) ?_
      obtain ⟨v5, e5, hf⟩ := bdo hf
      refine g_get (pc := 26) (o := (some l0)) (a := l0) (ci := 0) (k := 0) (v := va_rf v5) (C := RX0) (T := TX0) (N := 7) hx hb hts hown hE hk hH in_X0 rfl (by decide) (hts _ q272) (fun _ h9 => h9) rfl (rdR_o e5) dX0_cause_26 ?_
      obtain ⟨a6, ea6, hf⟩ := bdo hf
      obtain ⟨v7, e7, hf⟩ := bdo hf
      refine g_get (pc := 29) (o := v5) (a := a6) (ci := 1) (k := 3) (v := va_rf v7) (C := RX1) (T := TX1) (N := 7) hx hb hts hown hE hk hH in_X1 rfl (by decide) (hts _ q238) (fun _ h9 => h9) ea6 (rdR_o e7) dX0_cause_29 ?_
      refine lv_iload_n (pc := 32) hx hb dX0_cause_32 rfl (lv_at hl 1 rfl) ?_
      obtain ⟨a9, ea9, hf⟩ := bdo hf
      obtain ⟨v8, S8, c8, n8, c2_8, n2_8, e8, hf, hC8, hN8⟩ := gbo hf
      refine g_callV (pc := 33) (o := v7) (b := a9) (As := [.int l1]) (rest := []) (st1 := [va_rf v8]) hc (j_nLL_get hJ a9 l1 S3 v8 S8 c8 n8 e8) (cwV 1 hts (lw_V q580 q581 q582 q103 q583) rfl rfl rfl hdJ4_get ⟨Nat.le_of_ble_eq_true rfl, Nat.le_of_ble_eq_true rfl⟩) (j_recv hJ _ _ _ _ 1 _ _ hE hH hS (adtR (t := 1) (show bd _ _ = some _ from e8)).choose_spec) ea9 rfl hl.1 rfl rfl (lv_room (Nat.le_of_ble_eq_true rfl)) dX0_cause_33 hH hS (by omega) (by omega) (fun H locs hH hS => ?_)
      have hkc : kc + c1 + c3 + c8 + c2_8 ≤ mc := by omega
      have hks : ks + n1 + n3 + n8 + n2_8 ≤ ms := by omega
      obtain ⟨_, e10, hf⟩ := bdo hf
      refine g_cast (pc := 36) (o := v8) (ci := 7) (C := RX15) (T := TX15) (N := 4) hx hb hts hown hE hk hH rfl q848 e10 dX0_cause_36 ?_
      obtain ⟨a11, ea11, hf⟩ := bdo hf
      obtain ⟨v12, e12, hf⟩ := bdo hf
      refine g_get (pc := 39) (o := v8) (a := a11) (ci := 7) (k := 3) (v := va_rf v12) (C := RX15) (T := TX15) (N := 4) hx hb hts hown hE hk hH in_X15 rfl (by decide) (hts _ q1654) (fun _ h9 => h9) ea11 (rdR_o e12) dX0_cause_39 ?_
      refine lv_iload_n (pc := 42) hx hb dX0_cause_42 rfl (lv_at hl 2 rfl) ?_
      obtain ⟨a14, ea14, hf⟩ := bdo hf
      obtain ⟨_, ek13, hf⟩ := bdo hf
      obtain ⟨v13, S13, c13, n13, c2_13, n2_13, e13, hf, hC13, hN13⟩ := gbo hf
      refine gP_link (pc := 43) (o := v12) (b := a14) (As := [.int l2]) (rest := []) (st1 := [va_rf v13]) hc hk hJ e13 ek13 q857 (Nat.le_of_ble_eq_true rfl) (Nat.le_of_ble_eq_true rfl) ea14 rfl hl.1 rfl rfl (lv_room (Nat.le_of_ble_eq_true rfl)) dX0_cause_43 hH hS (by omega) (by omega) (fun H locs hH hS => ?_)
      have hkc : kc + c1 + c3 + c8 + c13 + c2_13 ≤ mc := by omega
      have hks : ks + n1 + n3 + n8 + n13 + n2_13 ≤ ms := by omega
      refine g_astore (pc := 46) (i := 4) (o := v13) (lv' := [(4, va_rf v13), (0, .ref l0), (1, .int l1), (2, .int l2), (3, .int l3)]) hx hb dX0_cause_46 hl (by decide) rfl (fun ls hl => ?_)
      refine lv_iload_n (pc := 48) hx hb dX0_cause_48 rfl (lv_at hl 4 rfl) ?_
      refine lv_if_ne (pc := 49) (tgt := 60) hx hb dX0_cause_49 (by decide) (fun c15 => ?_) (fun c15 => ?_)
      · rw [if_neg c15] at hf
        refine g_aload (pc := 60) (o := v13) hx hb dX0_cause_60 (lv_at hl 0 rfl) ?_
        obtain ⟨a16, ea16, hf⟩ := bdo hf
        obtain ⟨v17, e17, hf⟩ := bdo hf
        refine g_getP (pc := 62) (o := v13) (a := a16) (k := 0) (v := .int v17) (ref := "CreditBroker$Cause") hx hb hts hown hE hk hH (by decide) (hts _ q1624) (fun _ h9 => h9) ea16 (rdPI_o e17) dX0_cause_62 ?_
        exact g_iret (pc := 65) hx hb hr hlk hH hS hkc hks hf dX0_cause_65
      · rw [if_pos c15] at hf
        refine g_aload (pc := 52) (o := v13) hx hb dX0_cause_52 (lv_at hl 0 rfl) ?_
        obtain ⟨a19, ea19, hf⟩ := bdo hf
        obtain ⟨_, ek18, hf⟩ := bdo hf
        obtain ⟨v18, S18, c18, n18, c2_18, n2_18, e18, hf, hC18, hN18⟩ := gbo hf
        refine gP_kind (pc := 54) (o := v13) (b := a19) (As := []) (rest := []) (st1 := [.int v18]) hc hk hJ e18 ek18 q532 (Nat.le_of_ble_eq_true rfl) (Nat.le_of_ble_eq_true rfl) ea19 rfl hl.1 rfl rfl (lv_room (Nat.le_of_ble_eq_true rfl)) dX0_cause_54 hH hS (by omega) (by omega) (fun H locs hH hS => ?_)
        have hkc : kc + c1 + c3 + c8 + c13 + c18 + c2_18 ≤ mc := by omega
        have hks : ks + n1 + n3 + n8 + n13 + n18 + n2_18 ≤ ms := by omega
        refine lv_goto (pc := 57) (tgt := 65) hx hb dX0_cause_57 (by decide) ?_
        exact g_iret (pc := 65) hx hb hr hlk hH hS hkc hks hf dX0_cause_65
    · rw [if_pos c4] at hf
      exact wX0_cause_b18 hk hJ hc l0 S3 _ _ ls _ _ _ _ hkc hks hH hS (lv_sub hl [0] rfl) hf
theorem mX0_cause {l : Launch} {G : gG} {Rp : gM → gM → Nat → Prop} (hk : rOK Rp) (hJ : JDK l G Rp) {S S2 : gS} {r2 : Int32} {C N : Nat} {l0 : Nat} {l1 : Int32} {l2 : Int32} {l3 : Int32} (hf : fX0_cause l0 l1 l2 l3 S = some (r2, S2, C, N)) : gMet l yX0_cause cX0_cause 5 (some .int) 65 1405 G Rp [.ref l0, .int l1, .int l2, .int l3] S (some (.int r2)) S2 C N := by
  refine g_start (by decide) (Nat.le_of_ble_eq_true rfl) (fun p e s m args below meth c ls hc hl hH => ?_)
  have hl : lv_has ls 5 [(0, .ref l0), (1, .int l1), (2, .int l2), (3, .int l3)] := hl
  exact wX0_cause_b0 hk hJ hc l0 l1 l2 l3 S _ _ ls 0 0 C N (by omega) (by omega) hH va_S.rf (lv_sub hl [0, 1, 2, 3] rfl) hf
end
section
variable {r : Int32} {Sf : gS}
def fX0_consumer (l0 : Nat) (l1 : Int32) (S : gS) : gO Int32 :=
  bd (chk S l0 0) fun _ =>
  gb (fX0_isQueue l0 l1 S) fun v1 S1 =>
  if v1 = 0 then
    bd (chk S1 l0 0) fun _ =>
    gb (fX0_no l0 (-82) S1) fun v27 S27 =>
    some (v27, S27, 0, 0)
  else
    bd (rdR S1 l0 0 0) fun v3 =>
    bd v3 fun a4 =>
    bd (rdR S1 a4 1 1) fun v5 =>
    bd v5 fun a7 =>
    gb (nAL_size a7  S1) fun v6 S6 =>
    if v6 = (nI 10) then
      bd (chk S6 l0 0) fun _ =>
      gb (fX0_no l0 (-86) S6) fun v26 S26 =>
      some (v26, S26, 0, 0)
    else
      bd (rdR S6 l0 0 0) fun v9 =>
      bd v9 fun a10 =>
      bd (rdR S6 a10 1 1) fun v11 =>
      nw S6 (cO 6 [.int 0, .int 0, .int 0, .int 0, .int 0]) 5 fun S12 =>
      bd (rdR S12 l0 0 0) fun v13 =>
      bd v13 fun a14 =>
      bd (rdR S12 a14 1 1) fun v15 =>
      bd v15 fun a17 =>
      gb (nAL_size a17  S12) fun v16 S16 =>
      gb (fX10_init S6.2 v16 l1 S16) fun _ S18 =>
      bd v11 fun a20 =>
      gb (nAL_add a20 (some S6.2) S18) fun v19 S19 =>
      bd (rdR S19 l0 0 0) fun v21 =>
      bd v21 fun a22 =>
      bd (rdR S19 a22 1 1) fun v23 =>
      bd v23 fun a25 =>
      gb (nAL_size a25  S19) fun v24 S24 =>
      some (v24 - (nI 1), S24, 0, 0)
theorem wX0_consumer_b0 (hk : rOK Rp) (hJ : JDK l G Rp) (hc : gC p s m args meth c G RX0 "consumer" cX0_consumer 2 (some .int)) (l0 : Nat) (l1 : Int32) (S : gS) (H : Heap) (locs : List Loc) (ls : Array Slot) (kc ks C N : Nat) (hkc : kc + C ≤ mc) (hks : ks + N ≤ ms) (hH : hp G Rp S H) (hS : va_S G.2.2.2 s.heap H locs) (hl : lv_has ls 2 [(0, .ref l0), (1, .int l1)]) (hf : fX0_consumer l0 l1 S = some (r, Sf, C, N)) : W p l e (gR 16 561 mc ms) s m args below meth c H locs kc ks (gQ below G Rp (some (.int r)) Sf args s mc ms) (F0 m 0 ls []) := by
  obtain ⟨hx, hb, hr, hlk, hml, hown, hts, hE, hA, hnm⟩ := hc
  have hc : gC p s m args meth c G RX0 "consumer" cX0_consumer 2 (some .int) := ⟨hx, hb, hr, hlk, hml, hown, hts, hE, hA, hnm⟩
  unfold fX0_consumer at hf
  refine lv_aload_n (pc := 0) hx hb dX0_consumer_0 rfl (lv_at hl 0 rfl) ?_
  refine lv_iload_n (pc := 1) hx hb dX0_consumer_1 rfl (lv_at hl 1 rfl) ?_
  obtain ⟨_, ek1, hf⟩ := bdo hf
  obtain ⟨v1, S1, c1, n1, c2_1, n2_1, e1, hf, hC1, hN1⟩ := gbo hf
  refine g_callV (pc := 2) (o := (some l0)) (b := l0) (As := [.int l1]) (rest := []) (st1 := [.int v1]) hc (mX0_isQueue hk hJ (l0 := l0) (l1 := l1) e1) (cwV 1 hts (lw_V q1214 q1216 qs17 q97 q1217) rfl rfl rfl hdX0_isQueue ⟨Nat.le_of_ble_eq_true rfl, Nat.le_of_ble_eq_true rfl⟩) (g_recv hE hk hH (ci := 0) (q := (RX0, TX0, 7)) rfl (chk_o ek1).choose_spec) rfl rfl hl.1 rfl rfl (lv_room (Nat.le_of_ble_eq_true rfl)) dX0_consumer_2 hH hS (by omega) (by omega) (fun H locs hH hS => ?_)
  have hkc : kc + c1 + c2_1 ≤ mc := by omega
  have hks : ks + n1 + n2_1 ≤ ms := by omega
  refine lv_if_ne (pc := 5) (tgt := 15) hx hb dX0_consumer_5 (by decide) (fun c2 => ?_) (fun c2 => ?_)
  · rw [if_neg c2] at hf
    refine lv_aload_n (pc := 15) hx hb dX0_consumer_15 rfl (lv_at hl 0 rfl) ?_
    obtain ⟨v3, e3, hf⟩ := bdo hf
    refine g_get (pc := 16) (o := (some l0)) (a := l0) (ci := 0) (k := 0) (v := va_rf v3) (C := RX0) (T := TX0) (N := 7) hx hb hts hown hE hk hH in_X0 rfl (by decide) (hts _ q272) (fun _ h9 => h9) rfl (rdR_o e3) dX0_consumer_16 ?_
    obtain ⟨a4, ea4, hf⟩ := bdo hf
    obtain ⟨v5, e5, hf⟩ := bdo hf
    refine g_get (pc := 19) (o := v3) (a := a4) (ci := 1) (k := 1) (v := va_rf v5) (C := RX1) (T := TX1) (N := 7) hx hb hts hown hE hk hH in_X1 rfl (by decide) (hts _ q234) (fun _ h9 => h9) ea4 (rdR_o e5) dX0_consumer_19 ?_
    obtain ⟨a7, ea7, hf⟩ := bdo hf
    obtain ⟨v6, S6, c6, n6, c2_6, n2_6, e6, hf, hC6, hN6⟩ := gbo hf
    refine g_callV (pc := 22) (o := v5) (b := a7) (As := []) (rest := []) (st1 := [.int v6]) hc (j_nAL_size hJ a7  S1 v6 S6 c6 n6 e6) (cwV 0 hts (lw_V q1134 q1120 q1121 q101 q1122) rfl rfl rfl hdJ2_size ⟨Nat.le_of_ble_eq_true rfl, Nat.le_of_ble_eq_true rfl⟩) (j_recv hJ _ _ _ _ 0 _ _ hE hH hS (adtR (t := 0) (show bd _ _ = some _ from e6)).choose_spec) ea7 rfl hl.1 rfl rfl (lv_room (Nat.le_of_ble_eq_true rfl)) dX0_consumer_22 hH hS (by omega) (by omega) (fun H locs hH hS => ?_)
    have hkc : kc + c1 + c6 + c2_6 ≤ mc := by omega
    have hks : ks + n1 + n6 + n2_6 ≤ ms := by omega
    refine lv_bipush (pc := 25) (v := nI 10) hx hb dX0_consumer_25 gkb10 ?_
    refine lv_icmp_ne (pc := 27) (tgt := 37) hx hb dX0_consumer_27 (by decide) (fun c8 => ?_) (fun c8 => ?_)
    · rw [if_neg c8] at hf
      refine lv_aload_n (pc := 37) hx hb dX0_consumer_37 rfl (lv_at hl 0 rfl) ?_
      obtain ⟨v9, e9, hf⟩ := bdo hf
      refine g_get (pc := 38) (o := (some l0)) (a := l0) (ci := 0) (k := 0) (v := va_rf v9) (C := RX0) (T := TX0) (N := 7) hx hb hts hown hE hk hH in_X0 rfl (by decide) (hts _ q272) (fun _ h9 => h9) rfl (rdR_o e9) dX0_consumer_38 ?_
      obtain ⟨a10, ea10, hf⟩ := bdo hf
      obtain ⟨v11, e11, hf⟩ := bdo hf
      refine g_get (pc := 41) (o := v9) (a := a10) (ci := 1) (k := 1) (v := va_rf v11) (C := RX1) (T := TX1) (N := 7) hx hb hts hown hE hk hH in_X1 rfl (by decide) (hts _ q234) (fun _ h9 => h9) ea10 (rdR_o e11) dX0_consumer_41 ?_
      obtain ⟨S12, c2_12, n2_12, eS12, hf, hC12, hN12⟩ := nwo hf
      refine g_newo (pc := 44) (ci := 6) (C := RX10) (T := TX10) (N := 5) (fs := [.int 0, .int 0, .int 0, .int 0, .int 0]) hx hb hts hown hE hA hk hH hS in_X10 tyX10_ok q1238 q1239 q134 rfl (fun j hj => by rcases (show j = 0 ∨ j = 1 ∨ j = 2 ∨ j = 3 ∨ j = 4 by omega) with rfl | rfl | rfl | rfl | rfl <;> rfl) eS12 (Nat.le_trans (by omega) hkc) (Nat.le_trans (by omega) hks) dX0_consumer_44 (fun H hH hS => ?_)
      have hkc : kc + c1 + c6 + 1 + c2_12 ≤ mc := by omega
      have hks : ks + n1 + n6 + 5 + n2_12 ≤ ms := by omega
      refine lv_dup (pc := 47) hx hb dX0_consumer_47 rfl ?_
      refine lv_aload_n (pc := 48) hx hb dX0_consumer_48 rfl (lv_at hl 0 rfl) ?_
      obtain ⟨v13, e13, hf⟩ := bdo hf
      refine g_get (pc := 49) (o := (some l0)) (a := l0) (ci := 0) (k := 0) (v := va_rf v13) (C := RX0) (T := TX0) (N := 7) hx hb hts hown hE hk hH in_X0 rfl (by decide) (hts _ q272) (fun _ h9 => h9) rfl (rdR_o e13) dX0_consumer_49 ?_
      obtain ⟨a14, ea14, hf⟩ := bdo hf
      obtain ⟨v15, e15, hf⟩ := bdo hf
      refine g_get (pc := 52) (o := v13) (a := a14) (ci := 1) (k := 1) (v := va_rf v15) (C := RX1) (T := TX1) (N := 7) hx hb hts hown hE hk hH in_X1 rfl (by decide) (hts _ q234) (fun _ h9 => h9) ea14 (rdR_o e15) dX0_consumer_52 ?_
      obtain ⟨a17, ea17, hf⟩ := bdo hf
      obtain ⟨v16, S16, c16, n16, c2_16, n2_16, e16, hf, hC16, hN16⟩ := gbo hf
      refine g_callV (pc := 55) (o := v15) (b := a17) (As := []) (rest := [.ref S6.2, .ref S6.2, va_rf v11]) (st1 := [.int v16, .ref S6.2, .ref S6.2, va_rf v11]) hc (j_nAL_size hJ a17  S12 v16 S16 c16 n16 e16) (cwV 0 hts (lw_V q1134 q1120 q1121 q101 q1122) rfl rfl rfl hdJ2_size ⟨Nat.le_of_ble_eq_true rfl, Nat.le_of_ble_eq_true rfl⟩) (j_recv hJ _ _ _ _ 0 _ _ hE hH hS (adtR (t := 0) (show bd _ _ = some _ from e16)).choose_spec) ea17 rfl hl.1 rfl rfl (lv_room (by simp [va_rf_cat, cat_i, cat_j, cat_r])) dX0_consumer_55 hH hS (by omega) (by omega) (fun H locs hH hS => ?_)
      have hkc : kc + c1 + c6 + 1 + c16 + c2_16 ≤ mc := by omega
      have hks : ks + n1 + n6 + 5 + n16 + n2_16 ≤ ms := by omega
      refine lv_iload_n (pc := 58) hx hb dX0_consumer_58 rfl (lv_at hl 1 rfl) ?_
      obtain ⟨_, S18, c18, n18, c2_18, n2_18, e18, hf, hC18, hN18⟩ := gbo hf
      refine g_callI (pc := 59) (o := (some S6.2)) (b := S6.2) (As := [.int v16, .int l1]) (rest := [.ref S6.2, va_rf v11]) hc (mX10_init hk hJ (l0 := S6.2) (l1 := v16) (l2 := l1) e18) (cwI 2 hts (lw_meth q1242) rfl rfl rfl (hts _ q134) (hts _ q1240) (hts _ q1241) rfl hdiX10_init ⟨Nat.le_of_ble_eq_true rfl, Nat.le_of_ble_eq_true rfl⟩) rfl rfl hl.1 rfl (lv_room (by simp [va_rf_cat, cat_i, cat_j, cat_r])) dX0_consumer_59 hH hS (by omega) (by omega) (fun H locs hH hS => ?_)
      have hkc : kc + c1 + c6 + 1 + c16 + c18 + c2_18 ≤ mc := by omega
      have hks : ks + n1 + n6 + 5 + n16 + n18 + n2_18 ≤ ms := by omega
      obtain ⟨a20, ea20, hf⟩ := bdo hf
      obtain ⟨v19, S19, c19, n19, c2_19, n2_19, e19, hf, hC19, hN19⟩ := gbo hf
      refine g_callV (pc := 62) (o := v11) (b := a20) (As := [.ref S6.2]) (rest := []) (st1 := [.int v19]) hc (j_nAL_add hJ a20 (some S6.2) S18 v19 S19 c19 n19 e19) (cwV 1 hts (lw_V q1209 q1040 q1041 q101 q1042) rfl rfl rfl hdJ2_add ⟨Nat.le_of_ble_eq_true rfl, Nat.le_of_ble_eq_true rfl⟩) (j_recv hJ _ _ _ _ 0 _ _ hE hH hS (adtR (t := 0) (show bd _ _ = some _ from e19)).choose_spec) ea20 rfl hl.1 rfl rfl (lv_room (Nat.le_of_ble_eq_true rfl)) dX0_consumer_62 hH hS (by omega) (by omega) (fun H locs hH hS => ?_)
      have hkc : kc + c1 + c6 + 1 + c16 + c18 + c19 + c2_19 ≤ mc := by omega
      have hks : ks + n1 + n6 + 5 + n16 + n18 + n19 + n2_19 ≤ ms := by omega
      refine lv_pop (pc := 65) hx hb dX0_consumer_65 rfl ?_
      refine lv_aload_n (pc := 66) hx hb dX0_consumer_66 rfl (lv_at hl 0 rfl) ?_
      obtain ⟨v21, e21, hf⟩ := bdo hf
      refine g_get (pc := 67) (o := (some l0)) (a := l0) (ci := 0) (k := 0) (v := va_rf v21) (C := RX0) (T := TX0) (N := 7) hx hb hts hown hE hk hH in_X0 rfl (by decide) (hts _ q272) (fun _ h9 => h9) rfl (rdR_o e21) dX0_consumer_67 ?_
      obtain ⟨a22, ea22, hf⟩ := bdo hf
      obtain ⟨v23, e23, hf⟩ := bdo hf
      refine g_get (pc := 70) (o := v21) (a := a22) (ci := 1) (k := 1) (v := va_rf v23) (C := RX1) (T := TX1) (N := 7) hx hb hts hown hE hk hH in_X1 rfl (by decide) (hts _ q234) (fun _ h9 => h9) ea22 (rdR_o e23) dX0_consumer_70 ?_
      obtain ⟨a25, ea25, hf⟩ := bdo hf
      obtain ⟨v24, S24, c24, n24, c2_24, n2_24, e24, hf, hC24, hN24⟩ := gbo hf
      refine g_callV (pc := 73) (o := v23) (b := a25) (As := []) (rest := []) (st1 := [.int v24]) hc (j_nAL_size hJ a25  S19 v24 S24 c24 n24 e24) (cwV 0 hts (lw_V q1134 q1120 q1121 q101 q1122) rfl rfl rfl hdJ2_size ⟨Nat.le_of_ble_eq_true rfl, Nat.le_of_ble_eq_true rfl⟩) (j_recv hJ _ _ _ _ 0 _ _ hE hH hS (adtR (t := 0) (show bd _ _ = some _ from e24)).choose_spec) ea25 rfl hl.1 rfl rfl (lv_room (Nat.le_of_ble_eq_true rfl)) dX0_consumer_73 hH hS (by omega) (by omega) (fun H locs hH hS => ?_)
      have hkc : kc + c1 + c6 + 1 + c16 + c18 + c19 + c24 + c2_24 ≤ mc := by omega
      have hks : ks + n1 + n6 + 5 + n16 + n18 + n19 + n24 + n2_24 ≤ ms := by omega
      refine lv_iconst (pc := 76) (v := nI 1) hx hb dX0_consumer_76 rfl ?_
      refine lv_isub (pc := 77) hx hb dX0_consumer_77 ?_
      exact g_iret (pc := 78) hx hb hr hlk hH hS hkc hks hf dX0_consumer_78
    · rw [if_pos c8] at hf
      refine lv_aload_n (pc := 30) hx hb dX0_consumer_30 rfl (lv_at hl 0 rfl) ?_
      refine lv_bipush (pc := 31) (v := -86) hx hb dX0_consumer_31 gkbm86 ?_
      obtain ⟨_, ek26, hf⟩ := bdo hf
      obtain ⟨v26, S26, c26, n26, c2_26, n2_26, e26, hf, hC26, hN26⟩ := gbo hf
      refine g_callV (pc := 33) (o := (some l0)) (b := l0) (As := [.int (-86)]) (rest := []) (st1 := [.int v26]) hc (mX0_no hk hJ (l0 := l0) (l1 := (-86)) e26) (cwV 1 hts (lw_V q398 q400 qs2 q97 q401) rfl rfl rfl hdX0_no ⟨Nat.le_of_ble_eq_true rfl, Nat.le_of_ble_eq_true rfl⟩) (g_recv hE hk hH (ci := 0) (q := (RX0, TX0, 7)) rfl (chk_o ek26).choose_spec) rfl rfl hl.1 rfl rfl (lv_room (Nat.le_of_ble_eq_true rfl)) dX0_consumer_33 hH hS (by omega) (by omega) (fun H locs hH hS => ?_)
      have hkc : kc + c1 + c6 + c26 + c2_26 ≤ mc := by omega
      have hks : ks + n1 + n6 + n26 + n2_26 ≤ ms := by omega
      exact g_iret (pc := 36) hx hb hr hlk hH hS hkc hks hf dX0_consumer_36
  · rw [if_pos c2] at hf
    refine lv_aload_n (pc := 8) hx hb dX0_consumer_8 rfl (lv_at hl 0 rfl) ?_
    refine lv_bipush (pc := 9) (v := -82) hx hb dX0_consumer_9 gkbm82 ?_
    obtain ⟨_, ek27, hf⟩ := bdo hf
    obtain ⟨v27, S27, c27, n27, c2_27, n2_27, e27, hf, hC27, hN27⟩ := gbo hf
    refine g_callV (pc := 11) (o := (some l0)) (b := l0) (As := [.int (-82)]) (rest := []) (st1 := [.int v27]) hc (mX0_no hk hJ (l0 := l0) (l1 := (-82)) e27) (cwV 1 hts (lw_V q398 q400 qs2 q97 q401) rfl rfl rfl hdX0_no ⟨Nat.le_of_ble_eq_true rfl, Nat.le_of_ble_eq_true rfl⟩) (g_recv hE hk hH (ci := 0) (q := (RX0, TX0, 7)) rfl (chk_o ek27).choose_spec) rfl rfl hl.1 rfl rfl (lv_room (Nat.le_of_ble_eq_true rfl)) dX0_consumer_11 hH hS (by omega) (by omega) (fun H locs hH hS => ?_)
    have hkc : kc + c1 + c27 + c2_27 ≤ mc := by omega
    have hks : ks + n1 + n27 + n2_27 ≤ ms := by omega
    exact g_iret (pc := 14) hx hb hr hlk hH hS hkc hks hf dX0_consumer_14
theorem mX0_consumer {l : Launch} {G : gG} {Rp : gM → gM → Nat → Prop} (hk : rOK Rp) (hJ : JDK l G Rp) {S S2 : gS} {r2 : Int32} {C N : Nat} {l0 : Nat} {l1 : Int32} (hf : fX0_consumer l0 l1 S = some (r2, S2, C, N)) : gMet l yX0_consumer cX0_consumer 2 (some .int) 16 561 G Rp [.ref l0, .int l1] S (some (.int r2)) S2 C N := by
  refine g_start (by decide) (Nat.le_of_ble_eq_true rfl) (fun p e s m args below meth c ls hc hl hH => ?_)
  have hl : lv_has ls 2 [(0, .ref l0), (1, .int l1)] := hl
  exact wX0_consumer_b0 hk hJ hc l0 l1 S _ _ ls 0 0 C N (by omega) (by omega) hH va_S.rf (lv_sub hl [0, 1] rfl) hf
end
section
variable {r : Int32} {Sf : gS}
def fX0_consumerOf_b17 (G : gG) (l0 : Nat) (S : gS) : gO Int32 :=
  bd (chk S l0 0) fun _ =>
  gb (fX0_no l0 (-82) S) fun v1 S1 =>
  some (v1, S1, 0, 0)
theorem wX0_consumerOf_b17 (hk : rOK Rp) (hJ : JDK l G Rp) (hc : gC p s m args meth c G RX0 "consumerOf" cX0_consumerOf 4 (some .int)) (l0 : Nat) (S : gS) (H : Heap) (locs : List Loc) (ls : Array Slot) (kc ks C N : Nat) (hkc : kc + C ≤ mc) (hks : ks + N ≤ ms) (hH : hp G Rp S H) (hS : va_S G.2.2.2 s.heap H locs) (hl : lv_has ls 4 [(0, .ref l0)]) (hf : fX0_consumerOf_b17 G l0 S = some (r, Sf, C, N)) : W p l e (gR 17 3321 mc ms) s m args below meth c H locs kc ks (gQ below G Rp (some (.int r)) Sf args s mc ms) (F0 m 17 ls []) := by
  obtain ⟨hx, hb, hr, hlk, hml, hown, hts, hE, hA, hnm⟩ := hc
  have hc : gC p s m args meth c G RX0 "consumerOf" cX0_consumerOf 4 (some .int) := ⟨hx, hb, hr, hlk, hml, hown, hts, hE, hA, hnm⟩
  unfold fX0_consumerOf_b17 at hf
  refine lv_aload_n (pc := 17) hx hb dX0_consumerOf_17 rfl (lv_at hl 0 rfl) ?_
  refine lv_bipush (pc := 18) (v := -82) hx hb dX0_consumerOf_18 gkbm82 ?_
  obtain ⟨_, ek1, hf⟩ := bdo hf
  obtain ⟨v1, S1, c1, n1, c2_1, n2_1, e1, hf, hC1, hN1⟩ := gbo hf
  refine g_callV (pc := 20) (o := (some l0)) (b := l0) (As := [.int (-82)]) (rest := []) (st1 := [.int v1]) hc (mX0_no hk hJ (l0 := l0) (l1 := (-82)) e1) (cwV 1 hts (lw_V q398 q400 qs2 q97 q401) rfl rfl rfl hdX0_no ⟨Nat.le_of_ble_eq_true rfl, Nat.le_of_ble_eq_true rfl⟩) (g_recv hE hk hH (ci := 0) (q := (RX0, TX0, 7)) rfl (chk_o ek1).choose_spec) rfl rfl hl.1 rfl rfl (lv_room (Nat.le_of_ble_eq_true rfl)) dX0_consumerOf_20 hH hS (by omega) (by omega) (fun H locs hH hS => ?_)
  have hkc : kc + c1 + c2_1 ≤ mc := by omega
  have hks : ks + n1 + n2_1 ≤ ms := by omega
  exact g_iret (pc := 23) hx hb hr hlk hH hS hkc hks hf dX0_consumerOf_23
def fX0_consumerOf (G : gG) (l0 : Nat) (l1 : Int32) (l2 : Int32) (S : gS) : gO Int32 :=
  bd (chk S l0 0) fun _ =>
  gb (fX0_isConsumer l0 l1 S) fun v1 S1 =>
  if v1 = 0 then
    fX0_consumerOf_b17 G l0 S1
  else
    gb (fX0_isIn l2 (nI 0) (nI 4) S1) fun v3 S3 =>
    if v3 = 0 then
      fX0_consumerOf_b17 G l0 S3
    else
      bd (rdR S3 l0 0 0) fun v5 =>
      bd v5 fun a6 =>
      bd (rdR S3 a6 1 1) fun v7 =>
      bd v7 fun a9 =>
      gb (nAL_get a9 l1 S3) fun v8 S8 =>
      bd (ckc S8 v8 6) fun _ =>
      if l2 = 0 then
        bd v8 fun a12 =>
        bd (rdI S8 a12 6 1) fun v13 =>
        some (v13, S8, 0, 0)
      else if l2 = 1 then
        bd v8 fun a14 =>
        bd (rdI S8 a14 6 2) fun v15 =>
        some (v15, S8, 0, 0)
      else if l2 = 2 then
        bd (chk S8 l0 0) fun _ =>
        gb (fX0_manyOut G l0 v8 S8) fun v16 S16 =>
        some (v16, S16, 0, 0)
      else if l2 = 3 then
        bd v8 fun a17 =>
        bd (rdI S8 a17 6 4) fun v18 =>
        if v18 = 0 then
          some (nI 0, S8, 0, 0)
        else
          some (nI 1, S8, 0, 0)
      else
        bd v8 fun a20 =>
        bd (rdI S8 a20 6 3) fun v21 =>
        some (v21, S8, 0, 0)
theorem wX0_consumerOf_b0 (hk : rOK Rp) (hJ : JDK l G Rp) (hc : gC p s m args meth c G RX0 "consumerOf" cX0_consumerOf 4 (some .int)) (l0 : Nat) (l1 : Int32) (l2 : Int32) (S : gS) (H : Heap) (locs : List Loc) (ls : Array Slot) (kc ks C N : Nat) (hkc : kc + C ≤ mc) (hks : ks + N ≤ ms) (hH : hp G Rp S H) (hS : va_S G.2.2.2 s.heap H locs) (hl : lv_has ls 4 [(0, .ref l0), (1, .int l1), (2, .int l2)]) (hf : fX0_consumerOf G l0 l1 l2 S = some (r, Sf, C, N)) : W p l e (gR 17 3321 mc ms) s m args below meth c H locs kc ks (gQ below G Rp (some (.int r)) Sf args s mc ms) (F0 m 0 ls []) := by
  obtain ⟨hx, hb, hr, hlk, hml, hown, hts, hE, hA, hnm⟩ := hc
  have hc : gC p s m args meth c G RX0 "consumerOf" cX0_consumerOf 4 (some .int) := ⟨hx, hb, hr, hlk, hml, hown, hts, hE, hA, hnm⟩
  unfold fX0_consumerOf at hf
  refine lv_aload_n (pc := 0) hx hb dX0_consumerOf_0 rfl (lv_at hl 0 rfl) ?_
  refine lv_iload_n (pc := 1) hx hb dX0_consumerOf_1 rfl (lv_at hl 1 rfl) ?_
  obtain ⟨_, ek1, hf⟩ := bdo hf
  obtain ⟨v1, S1, c1, n1, c2_1, n2_1, e1, hf, hC1, hN1⟩ := gbo hf
  refine g_callV (pc := 2) (o := (some l0)) (b := l0) (As := [.int l1]) (rest := []) (st1 := [.int v1]) hc (mX0_isConsumer hk hJ (l0 := l0) (l1 := l1) e1) (cwV 1 hts (lw_V q1278 q1280 qs20 q97 q1281) rfl rfl rfl hdX0_isConsumer ⟨Nat.le_of_ble_eq_true rfl, Nat.le_of_ble_eq_true rfl⟩) (g_recv hE hk hH (ci := 0) (q := (RX0, TX0, 7)) rfl (chk_o ek1).choose_spec) rfl rfl hl.1 rfl rfl (lv_room (Nat.le_of_ble_eq_true rfl)) dX0_consumerOf_2 hH hS (by omega) (by omega) (fun H locs hH hS => ?_)
  have hkc : kc + c1 + c2_1 ≤ mc := by omega
  have hks : ks + n1 + n2_1 ≤ ms := by omega
  refine lv_if_eq (pc := 5) (tgt := 17) hx hb dX0_consumerOf_5 (by decide) (fun c2 => ?_) (fun c2 => ?_)
  · rw [if_pos c2] at hf
    exact wX0_consumerOf_b17 hk hJ hc l0 S1 _ _ ls _ _ _ _ hkc hks hH hS (lv_sub hl [0] rfl) hf
  · rw [if_neg c2] at hf
    refine lv_iload_n (pc := 8) hx hb dX0_consumerOf_8 rfl (lv_at hl 2 rfl) ?_
    refine lv_iconst (pc := 9) (v := nI 0) hx hb dX0_consumerOf_9 rfl ?_
    refine lv_iconst (pc := 10) (v := nI 4) hx hb dX0_consumerOf_10 rfl ?_
    obtain ⟨v3, S3, c3, n3, c2_3, n2_3, e3, hf, hC3, hN3⟩ := gbo hf
    refine g_callS (pc := 11) (As := [.int l2, .int (nI 0), .int (nI 4)]) (rest := []) (st1 := [.int v3]) hc (mX0_isIn hk hJ (l0 := l2) (l1 := (nI 0)) (l2 := (nI 4)) e3) (va_cwS 3 hts (lw_S q395 q396 q97 q397) rfl rfl rfl hdX0_isIn ⟨Nat.le_of_ble_eq_true rfl, Nat.le_of_ble_eq_true rfl⟩) rfl hl.1 rfl rfl (lv_room (Nat.le_of_ble_eq_true rfl)) dX0_consumerOf_11 hH hS (by omega) (by omega) (fun H locs hH hS => ?_)
    have hkc : kc + c1 + c3 + c2_3 ≤ mc := by omega
    have hks : ks + n1 + n3 + n2_3 ≤ ms := by omega
    refine lv_if_ne (pc := 14) (tgt := 24) hx hb dX0_consumerOf_14 (by decide) (fun c4 => ?_) (fun c4 => ?_)
    · rw [if_neg c4] at hf
      refine lv_aload_n (pc := 24) hx hb dX0_consumerOf_24 rfl (lv_at hl 0 rfl) ?_
      obtain ⟨v5, e5, hf⟩ := bdo hf
      refine g_get (pc := 25) (o := (some l0)) (a := l0) (ci := 0) (k := 0) (v := va_rf v5) (C := RX0) (T := TX0) (N := 7) hx hb hts hown hE hk hH in_X0 rfl (by decide) (hts _ q272) (fun _ h9 => h9) rfl (rdR_o e5) dX0_consumerOf_25 ?_
      obtain ⟨a6, ea6, hf⟩ := bdo hf
      obtain ⟨v7, e7, hf⟩ := bdo hf
      refine g_get (pc := 28) (o := v5) (a := a6) (ci := 1) (k := 1) (v := va_rf v7) (C := RX1) (T := TX1) (N := 7) hx hb hts hown hE hk hH in_X1 rfl (by decide) (hts _ q234) (fun _ h9 => h9) ea6 (rdR_o e7) dX0_consumerOf_28 ?_
      refine lv_iload_n (pc := 31) hx hb dX0_consumerOf_31 rfl (lv_at hl 1 rfl) ?_
      obtain ⟨a9, ea9, hf⟩ := bdo hf
      obtain ⟨v8, S8, c8, n8, c2_8, n2_8, e8, hf, hC8, hN8⟩ := gbo hf
      refine g_callV (pc := 32) (o := v7) (b := a9) (As := [.int l1]) (rest := []) (st1 := [va_rf v8]) hc (j_nAL_get hJ a9 l1 S3 v8 S8 c8 n8 e8) (cwV 1 hts (lw_V q1222 q1223 q1224 q101 q1225) rfl rfl rfl hdJ2_get ⟨Nat.le_of_ble_eq_true rfl, Nat.le_of_ble_eq_true rfl⟩) (j_recv hJ _ _ _ _ 0 _ _ hE hH hS (adtR (t := 0) (show bd _ _ = some _ from e8)).choose_spec) ea9 rfl hl.1 rfl rfl (lv_room (Nat.le_of_ble_eq_true rfl)) dX0_consumerOf_32 hH hS (by omega) (by omega) (fun H locs hH hS => ?_)
      have hkc : kc + c1 + c3 + c8 + c2_8 ≤ mc := by omega
      have hks : ks + n1 + n3 + n8 + n2_8 ≤ ms := by omega
      obtain ⟨_, e10, hf⟩ := bdo hf
      refine g_cast (pc := 35) (o := v8) (ci := 6) (C := RX10) (T := TX10) (N := 5) hx hb hts hown hE hk hH rfl q1238 e10 dX0_consumerOf_35 ?_
      refine g_astore_n (pc := 38) (i := 3) (o := v8) (lv' := [(3, va_rf v8), (0, .ref l0), (1, .int l1), (2, .int l2)]) hx hb dX0_consumerOf_38 rfl hl (by decide) rfl (fun ls hl => ?_)
      refine lv_iload_n (pc := 39) hx hb dX0_consumerOf_39 rfl (lv_at hl 3 rfl) ?_
      by_cases c11_0 : l2 = 0
      · rw [if_pos c11_0] at hf
        refine lv_tableIn (pc := 40) (off := 32) (tgt := 72) hx hb dX0_consumerOf_40 (by rw [c11_0]; decide) (by rw [c11_0]; decide) (by rw [c11_0]; rfl) (by decide) ?_
        refine g_aload_n (pc := 72) (o := v8) hx hb dX0_consumerOf_72 rfl (lv_at hl 0 rfl) ?_
        obtain ⟨a12, ea12, hf⟩ := bdo hf
        obtain ⟨v13, e13, hf⟩ := bdo hf
        refine g_get (pc := 73) (o := v8) (a := a12) (ci := 6) (k := 1) (v := .int v13) (C := RX10) (T := TX10) (N := 5) hx hb hts hown hE hk hH in_X10 rfl (by decide) (hts _ q1249) (fun _ h9 => h9) ea12 (rdI_o e13) dX0_consumerOf_73 ?_
        refine lv_goto (pc := 76) (tgt := 113) hx hb dX0_consumerOf_76 (by decide) ?_
        exact g_iret (pc := 113) hx hb hr hlk hH hS hkc hks hf dX0_consumerOf_113
      · rw [if_neg c11_0] at hf
        by_cases c11_1 : l2 = 1
        · rw [if_pos c11_1] at hf
          refine lv_tableIn (pc := 40) (off := 39) (tgt := 79) hx hb dX0_consumerOf_40 (by rw [c11_1]; decide) (by rw [c11_1]; decide) (by rw [c11_1]; rfl) (by decide) ?_
          refine g_aload_n (pc := 79) (o := v8) hx hb dX0_consumerOf_79 rfl (lv_at hl 0 rfl) ?_
          obtain ⟨a14, ea14, hf⟩ := bdo hf
          obtain ⟨v15, e15, hf⟩ := bdo hf
          refine g_get (pc := 80) (o := v8) (a := a14) (ci := 6) (k := 2) (v := .int v15) (C := RX10) (T := TX10) (N := 5) hx hb hts hown hE hk hH in_X10 rfl (by decide) (hts _ q1252) (fun _ h9 => h9) ea14 (rdI_o e15) dX0_consumerOf_80 ?_
          refine lv_goto (pc := 83) (tgt := 113) hx hb dX0_consumerOf_83 (by decide) ?_
          exact g_iret (pc := 113) hx hb hr hlk hH hS hkc hks hf dX0_consumerOf_113
        · rw [if_neg c11_1] at hf
          by_cases c11_2 : l2 = 2
          · rw [if_pos c11_2] at hf
            refine lv_tableIn (pc := 40) (off := 46) (tgt := 86) hx hb dX0_consumerOf_40 (by rw [c11_2]; decide) (by rw [c11_2]; decide) (by rw [c11_2]; rfl) (by decide) ?_
            refine lv_aload_n (pc := 86) hx hb dX0_consumerOf_86 rfl (lv_at hl 1 rfl) ?_
            refine g_aload_n (pc := 87) (o := v8) hx hb dX0_consumerOf_87 rfl (lv_at hl 0 rfl) ?_
            obtain ⟨_, ek16, hf⟩ := bdo hf
            obtain ⟨v16, S16, c16, n16, c2_16, n2_16, e16, hf, hC16, hN16⟩ := gbo hf
            refine g_callV (pc := 88) (o := (some l0)) (b := l0) (As := [va_rf v8]) (rest := []) (st1 := [.int v16]) hc (mX0_manyOut hk hJ (l0 := l0) (l1 := v8) e16) (cwV 1 hts (lw_V q1848 q1850 qs30 q97 q1851) rfl rfl rfl hdX0_manyOut ⟨Nat.le_of_ble_eq_true rfl, Nat.le_of_ble_eq_true rfl⟩) (g_recv hE hk hH (ci := 0) (q := (RX0, TX0, 7)) rfl (chk_o ek16).choose_spec) rfl rfl hl.1 rfl rfl (lv_room (Nat.le_of_ble_eq_true rfl)) dX0_consumerOf_88 hH hS (by omega) (by omega) (fun H locs hH hS => ?_)
            have hkc : kc + c1 + c3 + c8 + c16 + c2_16 ≤ mc := by omega
            have hks : ks + n1 + n3 + n8 + n16 + n2_16 ≤ ms := by omega
            refine lv_goto (pc := 91) (tgt := 113) hx hb dX0_consumerOf_91 (by decide) ?_
            exact g_iret (pc := 113) hx hb hr hlk hH hS hkc hks hf dX0_consumerOf_113
          · rw [if_neg c11_2] at hf
            by_cases c11_3 : l2 = 3
            · rw [if_pos c11_3] at hf
              refine lv_tableIn (pc := 40) (off := 54) (tgt := 94) hx hb dX0_consumerOf_40 (by rw [c11_3]; decide) (by rw [c11_3]; decide) (by rw [c11_3]; rfl) (by decide) ?_
              refine g_aload_n (pc := 94) (o := v8) hx hb dX0_consumerOf_94 rfl (lv_at hl 0 rfl) ?_
              obtain ⟨a17, ea17, hf⟩ := bdo hf
              obtain ⟨v18, e18, hf⟩ := bdo hf
              refine g_get (pc := 95) (o := v8) (a := a17) (ci := 6) (k := 4) (v := .int v18) (C := RX10) (T := TX10) (N := 5) hx hb hts hown hE hk hH in_X10 rfl (by decide) (hts _ q1258) (fun _ h9 => h9) ea17 (rdI_o e18) dX0_consumerOf_95 ?_
              refine lv_if_eq (pc := 98) (tgt := 105) hx hb dX0_consumerOf_98 (by decide) (fun c19 => ?_) (fun c19 => ?_)
              · rw [if_pos c19] at hf
                refine lv_iconst (pc := 105) (v := nI 0) hx hb dX0_consumerOf_105 rfl ?_
                refine lv_goto (pc := 106) (tgt := 113) hx hb dX0_consumerOf_106 (by decide) ?_
                exact g_iret (pc := 113) hx hb hr hlk hH hS hkc hks hf dX0_consumerOf_113
              · rw [if_neg c19] at hf
                refine lv_iconst (pc := 101) (v := nI 1) hx hb dX0_consumerOf_101 rfl ?_
                refine lv_goto (pc := 102) (tgt := 113) hx hb dX0_consumerOf_102 (by decide) ?_
                exact g_iret (pc := 113) hx hb hr hlk hH hS hkc hks hf dX0_consumerOf_113
            · rw [if_neg c11_3] at hf
              refine lv_tableOut (pc := 40) (tgt := 109) hx hb dX0_consumerOf_40 (tsw3 c11_0 c11_1 c11_2 c11_3) (by decide) ?_
              refine g_aload_n (pc := 109) (o := v8) hx hb dX0_consumerOf_109 rfl (lv_at hl 0 rfl) ?_
              obtain ⟨a20, ea20, hf⟩ := bdo hf
              obtain ⟨v21, e21, hf⟩ := bdo hf
              refine g_get (pc := 110) (o := v8) (a := a20) (ci := 6) (k := 3) (v := .int v21) (C := RX10) (T := TX10) (N := 5) hx hb hts hown hE hk hH in_X10 rfl (by decide) (hts _ q1255) (fun _ h9 => h9) ea20 (rdI_o e21) dX0_consumerOf_110 ?_
              exact g_iret (pc := 113) hx hb hr hlk hH hS hkc hks hf dX0_consumerOf_113
    · rw [if_pos c4] at hf
      exact wX0_consumerOf_b17 hk hJ hc l0 S3 _ _ ls _ _ _ _ hkc hks hH hS (lv_sub hl [0] rfl) hf
theorem mX0_consumerOf {l : Launch} {G : gG} {Rp : gM → gM → Nat → Prop} (hk : rOK Rp) (hJ : JDK l G Rp) {S S2 : gS} {r2 : Int32} {C N : Nat} {l0 : Nat} {l1 : Int32} {l2 : Int32} (hf : fX0_consumerOf G l0 l1 l2 S = some (r2, S2, C, N)) : gMet l yX0_consumerOf cX0_consumerOf 4 (some .int) 17 3321 G Rp [.ref l0, .int l1, .int l2] S (some (.int r2)) S2 C N := by
  refine g_start (by decide) (Nat.le_of_ble_eq_true rfl) (fun p e s m args below meth c ls hc hl hH => ?_)
  have hl : lv_has ls 4 [(0, .ref l0), (1, .int l1), (2, .int l2)] := hl
  exact wX0_consumerOf_b0 hk hJ hc l0 l1 l2 S _ _ ls 0 0 C N (by omega) (by omega) hH va_S.rf (lv_sub hl [0, 1, 2] rfl) hf
end
section
variable {r : Int32} {Sf : gS}
def fX0_consumersOf_b58 (k14 : Int32 → Int32 → Int32 → (Option Nat) → gS → gO Int32) (l1 : Int32) (l2 : Int32) (l3 : Int32) (l4 : Option Nat) (l5 : Option Nat) (t0 : Int32) (S : gS) : gO Int32 :=
  if t0 = 0 then
    k14 l1 l2 (l3 + (nI 0)) l4 S
  else
    if l2 = 0 then
      k14 l1 l2 (l3 + (nI 1)) l4 S
    else
      bd l5 fun a3 =>
      bd (rdI S a3 6 2) fun v4 =>
      k14 l1 l2 (l3 + v4) l4 S
theorem wX0_consumersOf_b58 (hk : rOK Rp) (hJ : JDK l G Rp) (hc : gC p s m args meth c G RX0 "consumersOf" cX0_consumersOf 7 (some .int)) (k14 : Int32 → Int32 → Int32 → (Option Nat) → gS → gO Int32) (h14 : ∀ (l1 : Int32) (l2 : Int32) (l3 : Int32) (l4 : Option Nat) (S : gS) (H : Heap) (locs : List Loc) (ls : Array Slot) (kc ks C N : Nat), kc + C ≤ mc → ks + N ≤ ms → hp G Rp S H → va_S G.2.2.2 s.heap H locs → lv_has ls 7 [(1, .int l1), (2, .int l2), (3, .int l3), (4, va_rf l4)] → k14 l1 l2 l3 l4 S = some (r, Sf, C, N) → W p l e (gR 15 540 mc ms) s m args below meth c H locs kc ks (gQ below G Rp (some (.int r)) Sf args s mc ms) (F0 m 14 ls [])) (l1 : Int32) (l2 : Int32) (l3 : Int32) (l4 : Option Nat) (l5 : Option Nat) (t0 : Int32) (S : gS) (H : Heap) (locs : List Loc) (ls : Array Slot) (kc ks C N : Nat) (hkc : kc + C ≤ mc) (hks : ks + N ≤ ms) (hH : hp G Rp S H) (hS : va_S G.2.2.2 s.heap H locs) (hl : lv_has ls 7 [(1, .int l1), (2, .int l2), (3, .int l3), (4, va_rf l4), (5, va_rf l5)]) (hf : fX0_consumersOf_b58 k14 l1 l2 l3 l4 l5 t0 S = some (r, Sf, C, N)) : W p l e (gR 15 540 mc ms) s m args below meth c H locs kc ks (gQ below G Rp (some (.int r)) Sf args s mc ms) (F0 m 58 ls [.int t0]) := by
  obtain ⟨hx, hb, hr, hlk, hml, hown, hts, hE, hA, hnm⟩ := hc
  have hc : gC p s m args meth c G RX0 "consumersOf" cX0_consumersOf 7 (some .int) := ⟨hx, hb, hr, hlk, hml, hown, hts, hE, hA, hnm⟩
  unfold fX0_consumersOf_b58 at hf
  refine lv_istore (pc := 58) (i := 6) (lv' := [(6, .int t0), (1, .int l1), (2, .int l2), (3, .int l3), (4, va_rf l4), (5, va_rf l5)]) hx hb dX0_consumersOf_58 hl (by decide) (by simp [va_rf_cat, cat_i, cat_j, cat_r] <;> rfl) (fun ls hl => ?_)
  refine lv_iload_n (pc := 60) hx hb dX0_consumersOf_60 rfl (lv_at hl 3 rfl) ?_
  refine lv_iload (pc := 61) hx hb dX0_consumersOf_61 (lv_at hl 0 rfl) ?_
  refine lv_if_eq (pc := 63) (tgt := 82) hx hb dX0_consumersOf_63 (by decide) (fun c1 => ?_) (fun c1 => ?_)
  · rw [if_pos c1] at hf
    refine lv_iconst (pc := 82) (v := nI 0) hx hb dX0_consumersOf_82 rfl ?_
    refine lv_iadd (pc := 83) hx hb dX0_consumersOf_83 ?_
    refine lv_istore_n (pc := 84) (i := 3) (lv' := [(3, .int (l3 + (nI 0))), (6, .int t0), (1, .int l1), (2, .int l2), (4, va_rf l4), (5, va_rf l5)]) hx hb dX0_consumersOf_84 rfl hl (by decide) rfl (fun ls hl => ?_)
    refine lv_goto (pc := 85) (tgt := 14) hx hb dX0_consumersOf_85 (by decide) ?_
    exact h14 l1 l2 (l3 + (nI 0)) l4 S _ _ ls _ _ _ _ hkc hks hH hS (lv_sub hl [2, 3, 0, 4] rfl) hf
  · rw [if_neg c1] at hf
    refine lv_iload_n (pc := 66) hx hb dX0_consumersOf_66 rfl (lv_at hl 2 rfl) ?_
    refine lv_if_eq (pc := 67) (tgt := 78) hx hb dX0_consumersOf_67 (by decide) (fun c2 => ?_) (fun c2 => ?_)
    · rw [if_pos c2] at hf
      refine lv_iconst (pc := 78) (v := nI 1) hx hb dX0_consumersOf_78 rfl ?_
      refine lv_goto (pc := 79) (tgt := 83) hx hb dX0_consumersOf_79 (by decide) ?_
      refine lv_iadd (pc := 83) hx hb dX0_consumersOf_83 ?_
      refine lv_istore_n (pc := 84) (i := 3) (lv' := [(3, .int (l3 + (nI 1))), (6, .int t0), (1, .int l1), (2, .int l2), (4, va_rf l4), (5, va_rf l5)]) hx hb dX0_consumersOf_84 rfl hl (by decide) rfl (fun ls hl => ?_)
      refine lv_goto (pc := 85) (tgt := 14) hx hb dX0_consumersOf_85 (by decide) ?_
      exact h14 l1 l2 (l3 + (nI 1)) l4 S _ _ ls _ _ _ _ hkc hks hH hS (lv_sub hl [2, 3, 0, 4] rfl) hf
    · rw [if_neg c2] at hf
      refine g_aload (pc := 70) (o := l5) hx hb dX0_consumersOf_70 (lv_at hl 5 rfl) ?_
      obtain ⟨a3, ea3, hf⟩ := bdo hf
      obtain ⟨v4, e4, hf⟩ := bdo hf
      refine g_get (pc := 72) (o := l5) (a := a3) (ci := 6) (k := 2) (v := .int v4) (C := RX10) (T := TX10) (N := 5) hx hb hts hown hE hk hH in_X10 rfl (by decide) (hts _ q1252) (fun _ h9 => h9) ea3 (rdI_o e4) dX0_consumersOf_72 ?_
      refine lv_goto (pc := 75) (tgt := 83) hx hb dX0_consumersOf_75 (by decide) ?_
      refine lv_iadd (pc := 83) hx hb dX0_consumersOf_83 ?_
      refine lv_istore_n (pc := 84) (i := 3) (lv' := [(3, .int (l3 + v4)), (6, .int t0), (1, .int l1), (2, .int l2), (4, va_rf l4), (5, va_rf l5)]) hx hb dX0_consumersOf_84 rfl hl (by decide) rfl (fun ls hl => ?_)
      refine lv_goto (pc := 85) (tgt := 14) hx hb dX0_consumersOf_85 (by decide) ?_
      exact h14 l1 l2 (l3 + v4) l4 S _ _ ls _ _ _ _ hkc hks hH hS (lv_sub hl [2, 3, 0, 4] rfl) hf
def fX0_consumersOf_b57 (k14 : Int32 → Int32 → Int32 → (Option Nat) → gS → gO Int32) (l1 : Int32) (l2 : Int32) (l3 : Int32) (l4 : Option Nat) (l5 : Option Nat) (S : gS) : gO Int32 :=
  fX0_consumersOf_b58 k14 l1 l2 l3 l4 l5 (nI 0) S
theorem wX0_consumersOf_b57 (hk : rOK Rp) (hJ : JDK l G Rp) (hc : gC p s m args meth c G RX0 "consumersOf" cX0_consumersOf 7 (some .int)) (k14 : Int32 → Int32 → Int32 → (Option Nat) → gS → gO Int32) (h14 : ∀ (l1 : Int32) (l2 : Int32) (l3 : Int32) (l4 : Option Nat) (S : gS) (H : Heap) (locs : List Loc) (ls : Array Slot) (kc ks C N : Nat), kc + C ≤ mc → ks + N ≤ ms → hp G Rp S H → va_S G.2.2.2 s.heap H locs → lv_has ls 7 [(1, .int l1), (2, .int l2), (3, .int l3), (4, va_rf l4)] → k14 l1 l2 l3 l4 S = some (r, Sf, C, N) → W p l e (gR 15 540 mc ms) s m args below meth c H locs kc ks (gQ below G Rp (some (.int r)) Sf args s mc ms) (F0 m 14 ls [])) (l1 : Int32) (l2 : Int32) (l3 : Int32) (l4 : Option Nat) (l5 : Option Nat) (S : gS) (H : Heap) (locs : List Loc) (ls : Array Slot) (kc ks C N : Nat) (hkc : kc + C ≤ mc) (hks : ks + N ≤ ms) (hH : hp G Rp S H) (hS : va_S G.2.2.2 s.heap H locs) (hl : lv_has ls 7 [(1, .int l1), (2, .int l2), (3, .int l3), (4, va_rf l4), (5, va_rf l5)]) (hf : fX0_consumersOf_b57 k14 l1 l2 l3 l4 l5 S = some (r, Sf, C, N)) : W p l e (gR 15 540 mc ms) s m args below meth c H locs kc ks (gQ below G Rp (some (.int r)) Sf args s mc ms) (F0 m 57 ls []) := by
  obtain ⟨hx, hb, hr, hlk, hml, hown, hts, hE, hA, hnm⟩ := hc
  have hc : gC p s m args meth c G RX0 "consumersOf" cX0_consumersOf 7 (some .int) := ⟨hx, hb, hr, hlk, hml, hown, hts, hE, hA, hnm⟩
  unfold fX0_consumersOf_b57 at hf
  refine lv_iconst (pc := 57) (v := nI 0) hx hb dX0_consumersOf_57 rfl ?_
  exact wX0_consumersOf_b58 hk hJ hc k14 h14 l1 l2 l3 l4 l5 (nI 0) S _ _ ls _ _ _ _ hkc hks hH hS (lv_sub hl [0, 1, 2, 3, 4] rfl) hf
def fX0_consumersOf_b14 : Nat → Int32 → Int32 → Int32 → (Option Nat) → gS → gO Int32
  | 0, _, _, _, _, _ => none
  | n + 1, l1, l2, l3, l4, S =>
    bd l4 fun a2 =>
    gb (nI6_hasNext a2 S) fun v1 S1 =>
    if v1 = 0 then
      some (l3, S1, 0, 0)
    else
      gb (nI6_next a2 S1) fun v4 S4 =>
      bd (ckc S4 v4 6) fun _ =>
      bd v4 fun a6 =>
      bd (rdI S4 a6 6 1) fun v7 =>
      if v7 = l1 then
        bd (rdI S4 a6 6 4) fun v9 =>
        if v9 = 0 then
          fX0_consumersOf_b58 (fX0_consumersOf_b14 n) l1 l2 l3 l4 v4 (nI 1) S4
        else
          fX0_consumersOf_b57 (fX0_consumersOf_b14 n) l1 l2 l3 l4 v4 S4
      else
        fX0_consumersOf_b57 (fX0_consumersOf_b14 n) l1 l2 l3 l4 v4 S4
theorem wX0_consumersOf_b14 (hk : rOK Rp) (hJ : JDK l G Rp) (hc : gC p s m args meth c G RX0 "consumersOf" cX0_consumersOf 7 (some .int)) : ∀ (n : Nat) (l1 : Int32) (l2 : Int32) (l3 : Int32) (l4 : Option Nat) (S : gS) (H : Heap) (locs : List Loc) (ls : Array Slot) (kc ks C N : Nat), kc + C ≤ mc → ks + N ≤ ms → hp G Rp S H → va_S G.2.2.2 s.heap H locs → lv_has ls 7 [(1, .int l1), (2, .int l2), (3, .int l3), (4, va_rf l4)] → fX0_consumersOf_b14 n l1 l2 l3 l4 S = some (r, Sf, C, N) → W p l e (gR 15 540 mc ms) s m args below meth c H locs kc ks (gQ below G Rp (some (.int r)) Sf args s mc ms) (F0 m 14 ls []) := by
  obtain ⟨hx, hb, hr, hlk, hml, hown, hts, hE, hA, hnm⟩ := hc
  have hc : gC p s m args meth c G RX0 "consumersOf" cX0_consumersOf 7 (some .int) := ⟨hx, hb, hr, hlk, hml, hown, hts, hE, hA, hnm⟩
  intro n
  induction n with
  | zero => intro l1 l2 l3 l4 S H locs ls kc ks C N _ _ _ _ _ hf; exact absurd hf (fun h => by cases h)
  | succ n ih =>
    intro l1 l2 l3 l4 S H locs ls kc ks C N hkc hks hH hS hl hf
    rw [fX0_consumersOf_b14] at hf
    refine g_aload (pc := 14) (o := l4) hx hb dX0_consumersOf_14 (lv_at hl 3 rfl) ?_
    obtain ⟨a2, ea2, hf⟩ := bdo hf
    obtain ⟨v1, S1, c1, n1, c2_1, n2_1, e1, hf, hC1, hN1⟩ := gbo hf
    refine g_callF (pc := 16) (o := l4) (b := a2) (As := []) (rest := []) (st1 := [.int v1]) (ci := 21) (q := (RJ26, TJ26, 4)) hc (j_nI6_hasNext hJ a2 S v1 S1 c1 n1 e1) (va_cwF 0 hts (lw_app (lw_of4 q2060 q1339 q1341 q135) (lw_meth q1343)) rfl rfl rfl (hE.2.1.2.2.2.2.2 _ _ _ hdx_hasNext.1 q1320 q1319 q1342 q1340 q1338) hdx_hasNext.2 ⟨Nat.le_of_ble_eq_true rfl, Nat.le_of_ble_eq_true rfl⟩) rfl rfl (j_recv hJ _ _ _ _ 6 _ _ hE hH hS (adtR (t := 6) (show bd _ _ = some _ from e1)).choose_spec) ea2 rfl hl.1 rfl rfl (lv_room (Nat.le_of_ble_eq_true rfl)) dX0_consumersOf_16 hH hS (by omega) (by omega) (fun H locs hH hS => ?_)
    have hkc : kc + c1 + c2_1 ≤ mc := by omega
    have hks : ks + n1 + n2_1 ≤ ms := by omega
    refine lv_if_eq (pc := 21) (tgt := 88) hx hb dX0_consumersOf_21 (by decide) (fun c3 => ?_) (fun c3 => ?_)
    · rw [if_pos c3] at hf
      refine lv_iload_n (pc := 88) hx hb dX0_consumersOf_88 rfl (lv_at hl 2 rfl) ?_
      exact g_iret (pc := 89) hx hb hr hlk hH hS hkc hks hf dX0_consumersOf_89
    · rw [if_neg c3] at hf
      refine g_aload (pc := 24) (o := l4) hx hb dX0_consumersOf_24 (lv_at hl 3 rfl) ?_
      obtain ⟨v4, S4, c4, n4, c2_4, n2_4, e4, hf, hC4, hN4⟩ := gbo hf
      refine g_callF (pc := 26) (o := l4) (b := a2) (As := []) (rest := []) (st1 := [va_rf v4]) (ci := 21) (q := (RJ26, TJ26, 4)) hc (j_nI6_next hJ a2 S1 v4 S4 c4 n4 e4) (va_cwF 0 hts (lw_app (lw_of4 q2062 q1472 q1474 q135) (lw_meth q1476)) rfl rfl rfl (hE.2.1.2.2.2.2.2 _ _ _ hdx_next.1 q1366 q1365 q1475 q1473 q1338) hdx_next.2 ⟨Nat.le_of_ble_eq_true rfl, Nat.le_of_ble_eq_true rfl⟩) rfl rfl (j_recv hJ _ _ _ _ 6 _ _ hE hH hS (adtR (t := 6) (show bd _ _ = some _ from e4)).choose_spec) ea2 rfl hl.1 rfl rfl (lv_room (Nat.le_of_ble_eq_true rfl)) dX0_consumersOf_26 hH hS (by omega) (by omega) (fun H locs hH hS => ?_)
      have hkc : kc + c1 + c4 + c2_4 ≤ mc := by omega
      have hks : ks + n1 + n4 + n2_4 ≤ ms := by omega
      obtain ⟨_, e5, hf⟩ := bdo hf
      refine g_cast (pc := 31) (o := v4) (ci := 6) (C := RX10) (T := TX10) (N := 5) hx hb hts hown hE hk hH rfl q1238 e5 dX0_consumersOf_31 ?_
      refine g_astore (pc := 34) (i := 5) (o := v4) (lv' := [(5, va_rf v4), (1, .int l1), (2, .int l2), (3, .int l3), (4, va_rf l4)]) hx hb dX0_consumersOf_34 hl (by decide) (by simp [va_rf_cat, cat_i, cat_j, cat_r] <;> rfl) (fun ls hl => ?_)
      refine g_aload (pc := 36) (o := v4) hx hb dX0_consumersOf_36 (lv_at hl 0 rfl) ?_
      obtain ⟨a6, ea6, hf⟩ := bdo hf
      obtain ⟨v7, e7, hf⟩ := bdo hf
      refine g_get (pc := 38) (o := v4) (a := a6) (ci := 6) (k := 1) (v := .int v7) (C := RX10) (T := TX10) (N := 5) hx hb hts hown hE hk hH in_X10 rfl (by decide) (hts _ q1249) (fun _ h9 => h9) ea6 (rdI_o e7) dX0_consumersOf_38 ?_
      refine lv_iload_n (pc := 41) hx hb dX0_consumersOf_41 rfl (lv_at hl 1 rfl) ?_
      refine lv_icmp_ne (pc := 42) (tgt := 57) hx hb dX0_consumersOf_42 (by decide) (fun c8 => ?_) (fun c8 => ?_)
      · rw [if_neg c8] at hf
        exact wX0_consumersOf_b57 hk hJ hc (fX0_consumersOf_b14 n) ih l1 l2 l3 l4 v4 S4 _ _ ls _ _ _ _ hkc hks hH hS (lv_sub hl [1, 2, 3, 4, 0] rfl) hf
      · rw [if_pos c8] at hf
        refine g_aload (pc := 45) (o := v4) hx hb dX0_consumersOf_45 (lv_at hl 0 rfl) ?_
        obtain ⟨v9, e9, hf⟩ := bdo hf
        refine g_get (pc := 47) (o := v4) (a := a6) (ci := 6) (k := 4) (v := .int v9) (C := RX10) (T := TX10) (N := 5) hx hb hts hown hE hk hH in_X10 rfl (by decide) (hts _ q1258) (fun _ h9 => h9) ea6 (rdI_o e9) dX0_consumersOf_47 ?_
        refine lv_if_ne (pc := 50) (tgt := 57) hx hb dX0_consumersOf_50 (by decide) (fun c10 => ?_) (fun c10 => ?_)
        · rw [if_neg c10] at hf
          exact wX0_consumersOf_b57 hk hJ hc (fX0_consumersOf_b14 n) ih l1 l2 l3 l4 v4 S4 _ _ ls _ _ _ _ hkc hks hH hS (lv_sub hl [1, 2, 3, 4, 0] rfl) hf
        · rw [if_pos c10] at hf
          refine lv_iconst (pc := 53) (v := nI 1) hx hb dX0_consumersOf_53 rfl ?_
          refine lv_goto (pc := 54) (tgt := 58) hx hb dX0_consumersOf_54 (by decide) ?_
          exact wX0_consumersOf_b58 hk hJ hc (fX0_consumersOf_b14 n) ih l1 l2 l3 l4 v4 (nI 1) S4 _ _ ls _ _ _ _ hkc hks hH hS (lv_sub hl [1, 2, 3, 4, 0] rfl) hf
def fX0_consumersOf (l0 : Nat) (l1 : Int32) (l2 : Int32) (S : gS) : gO Int32 :=
  bd (rdR S l0 0 0) fun v1 =>
  bd v1 fun a2 =>
  bd (rdR S a2 1 1) fun v3 =>
  bd v3 fun a5 =>
  gb (nAL_iter a5  S) fun v4 S4 =>
  fX0_consumersOf_b14 FU l1 l2 (nI 0) v4 S4
theorem wX0_consumersOf_b0 (hk : rOK Rp) (hJ : JDK l G Rp) (hc : gC p s m args meth c G RX0 "consumersOf" cX0_consumersOf 7 (some .int)) (l0 : Nat) (l1 : Int32) (l2 : Int32) (S : gS) (H : Heap) (locs : List Loc) (ls : Array Slot) (kc ks C N : Nat) (hkc : kc + C ≤ mc) (hks : ks + N ≤ ms) (hH : hp G Rp S H) (hS : va_S G.2.2.2 s.heap H locs) (hl : lv_has ls 7 [(0, .ref l0), (1, .int l1), (2, .int l2)]) (hf : fX0_consumersOf l0 l1 l2 S = some (r, Sf, C, N)) : W p l e (gR 15 540 mc ms) s m args below meth c H locs kc ks (gQ below G Rp (some (.int r)) Sf args s mc ms) (F0 m 0 ls []) := by
  obtain ⟨hx, hb, hr, hlk, hml, hown, hts, hE, hA, hnm⟩ := hc
  have hc : gC p s m args meth c G RX0 "consumersOf" cX0_consumersOf 7 (some .int) := ⟨hx, hb, hr, hlk, hml, hown, hts, hE, hA, hnm⟩
  unfold fX0_consumersOf at hf
  refine lv_iconst (pc := 0) (v := nI 0) hx hb dX0_consumersOf_0 rfl ?_
  refine lv_istore_n (pc := 1) (i := 3) (lv' := [(3, .int (nI 0)), (0, .ref l0), (1, .int l1), (2, .int l2)]) hx hb dX0_consumersOf_1 rfl hl (by decide) rfl (fun ls hl => ?_)
  refine lv_aload_n (pc := 2) hx hb dX0_consumersOf_2 rfl (lv_at hl 1 rfl) ?_
  obtain ⟨v1, e1, hf⟩ := bdo hf
  refine g_get (pc := 3) (o := (some l0)) (a := l0) (ci := 0) (k := 0) (v := va_rf v1) (C := RX0) (T := TX0) (N := 7) hx hb hts hown hE hk hH in_X0 rfl (by decide) (hts _ q272) (fun _ h9 => h9) rfl (rdR_o e1) dX0_consumersOf_3 ?_
  obtain ⟨a2, ea2, hf⟩ := bdo hf
  obtain ⟨v3, e3, hf⟩ := bdo hf
  refine g_get (pc := 6) (o := v1) (a := a2) (ci := 1) (k := 1) (v := va_rf v3) (C := RX1) (T := TX1) (N := 7) hx hb hts hown hE hk hH in_X1 rfl (by decide) (hts _ q234) (fun _ h9 => h9) ea2 (rdR_o e3) dX0_consumersOf_6 ?_
  obtain ⟨a5, ea5, hf⟩ := bdo hf
  obtain ⟨v4, S4, c4, n4, c2_4, n2_4, e4, hf, hC4, hN4⟩ := gbo hf
  refine g_callV (pc := 9) (o := v3) (b := a5) (As := []) (rest := []) (st1 := [va_rf v4]) hc (j_nAL_iter hJ a5  S v4 S4 c4 n4 e4) (cwV 0 hts (lw_V q2432 q1293 q1294 q101 q1295) rfl rfl rfl hdJ2_iterator ⟨Nat.le_of_ble_eq_true rfl, Nat.le_of_ble_eq_true rfl⟩) (j_recv hJ _ _ _ _ 0 _ _ hE hH hS (adtR (t := 0) (show bd _ _ = some _ from e4)).choose_spec) ea5 rfl hl.1 rfl rfl (lv_room (Nat.le_of_ble_eq_true rfl)) dX0_consumersOf_9 hH hS (by omega) (by omega) (fun H locs hH hS => ?_)
  have hkc : kc + c4 + c2_4 ≤ mc := by omega
  have hks : ks + n4 + n2_4 ≤ ms := by omega
  refine g_astore (pc := 12) (i := 4) (o := v4) (lv' := [(4, va_rf v4), (3, .int (nI 0)), (0, .ref l0), (1, .int l1), (2, .int l2)]) hx hb dX0_consumersOf_12 hl (by decide) rfl (fun ls hl => ?_)
  exact wX0_consumersOf_b14 hk hJ hc FU l1 l2 (nI 0) v4 S4 _ _ ls _ _ _ _ hkc hks hH hS (lv_sub hl [3, 4, 1, 0] rfl) hf
theorem mX0_consumersOf {l : Launch} {G : gG} {Rp : gM → gM → Nat → Prop} (hk : rOK Rp) (hJ : JDK l G Rp) {S S2 : gS} {r2 : Int32} {C N : Nat} {l0 : Nat} {l1 : Int32} {l2 : Int32} (hf : fX0_consumersOf l0 l1 l2 S = some (r2, S2, C, N)) : gMet l yX0_consumersOf cX0_consumersOf 7 (some .int) 15 540 G Rp [.ref l0, .int l1, .int l2] S (some (.int r2)) S2 C N := by
  refine g_start (by decide) (Nat.le_of_ble_eq_true rfl) (fun p e s m args below meth c ls hc hl hH => ?_)
  have hl : lv_has ls 7 [(0, .ref l0), (1, .int l1), (2, .int l2)] := hl
  exact wX0_consumersOf_b0 hk hJ hc l0 l1 l2 S _ _ ls 0 0 C N (by omega) (by omega) hH va_S.rf (lv_sub hl [0, 1, 2] rfl) hf
end
section
variable {r : Unit} {Sf : gS}
def fX1_init (l0 : Nat) (S : gS) : gO Unit :=
  nw S (cO 15 [.int 0, .null, .int 0]) 3 fun S2 =>
  gb (nAL_init S.2  S2) fun _ S3 =>
  bd (wr S3 l0 1 0 (.ref S.2)) fun S4 =>
  nw S4 (cO 15 [.int 0, .null, .int 0]) 3 fun S5 =>
  gb (nAL_init S4.2  S5) fun _ S6 =>
  bd (wr S6 l0 1 1 (.ref S4.2)) fun S7 =>
  nw S7 (cO 15 [.int 0, .null, .int 0]) 3 fun S8 =>
  gb (nAL_init S7.2  S8) fun _ S9 =>
  bd (wr S9 l0 1 2 (.ref S7.2)) fun S10 =>
  nw S10 (cO 16 [.int 0, .int 0, .null, .null]) 4 fun S11 =>
  gb (nLL_init S10.2  S11) fun _ S12 =>
  bd (wr S12 l0 1 3 (.ref S10.2)) fun S13 =>
  bd (wr S13 l0 1 6 (.int (nI 1))) fun S14 =>
  some ((), S14, 0, 0)
theorem wX1_init_b0 (hk : rOK Rp) (hJ : JDK l G Rp) (hc : gC p s m args meth c G RX1 "<init>" cX1_init 1 (none)) (l0 : Nat) (S : gS) (H : Heap) (locs : List Loc) (ls : Array Slot) (kc ks C N : Nat) (hkc : kc + C ≤ mc) (hks : ks + N ≤ ms) (hH : hp G Rp S H) (hS : va_S G.2.2.2 s.heap H locs) (hl : lv_has ls 1 [(0, .ref l0)]) (hf : fX1_init l0 S = some (r, Sf, C, N)) : W p l e (gR 15 540 mc ms) s m args below meth c H locs kc ks (gQ below G Rp none Sf args s mc ms) (F0 m 0 ls []) := by
  obtain ⟨hx, hb, hr, hlk, hml, hown, hts, hE, hA, hnm⟩ := hc
  have hc : gC p s m args meth c G RX1 "<init>" cX1_init 1 (none) := ⟨hx, hb, hr, hlk, hml, hown, hts, hE, hA, hnm⟩
  unfold fX1_init at hf
  refine lv_aload_n (pc := 0) hx hb dX1_init_0 rfl (lv_at hl 0 rfl) ?_
  refine W.objInit  hx hb hown (hts _ q176) (hts _ q169) (hts _ q170) rfl (by rw [hml]; exact hl.1) rfl dX1_init_1 (Nat.le_of_ble_eq_true rfl) (Nat.le_of_ble_eq_true rfl) ?_
  refine W.eq (g2 := F0 m 4 ls []) rfl ?_
  refine lv_aload_n (pc := 4) hx hb dX1_init_4 rfl (lv_at hl 0 rfl) ?_
  obtain ⟨S2, c2_2, n2_2, eS2, hf, hC2, hN2⟩ := nwo hf
  refine g_newo (pc := 5) (ci := 15) (C := RJ2) (T := TJ2) (N := 3) (fs := [.int 0, .null, .int 0]) hx hb hts hown hE hA hk hH hS in_J2 tyJ2_ok q177 q178 q101 rfl (fun j hj => by rcases (show j = 0 ∨ j = 1 ∨ j = 2 by omega) with rfl | rfl | rfl <;> rfl) eS2 (Nat.le_trans (by omega) hkc) (Nat.le_trans (by omega) hks) dX1_init_5 (fun H hH hS => ?_)
  have hkc : kc + 1 + c2_2 ≤ mc := by omega
  have hks : ks + 3 + n2_2 ≤ ms := by omega
  refine lv_dup (pc := 8) hx hb dX1_init_8 rfl ?_
  obtain ⟨_, S3, c3, n3, c2_3, n2_3, e3, hf, hC3, hN3⟩ := gbo hf
  refine g_callI (pc := 9) (o := (some S.2)) (b := S.2) (As := []) (rest := [.ref S.2, .ref l0]) hc (j_nAL_init hJ S.2  S2 () S3 c3 n3 e3) (cwI 0 hts (lw_meth q181) rfl rfl rfl (hts _ q101) (hts _ q179) (hts _ q180) rfl hdiJ2_init ⟨Nat.le_of_ble_eq_true rfl, Nat.le_of_ble_eq_true rfl⟩) rfl rfl hl.1 rfl (lv_room (Nat.le_of_ble_eq_true rfl)) dX1_init_9 hH hS (by omega) (by omega) (fun H locs hH hS => ?_)
  have hkc : kc + 1 + c3 + c2_3 ≤ mc := by omega
  have hks : ks + 3 + n3 + n2_3 ≤ ms := by omega
  obtain ⟨S4, e4, hf⟩ := bdo hf
  refine g_putF (pc := 12) (o := (some l0)) (a := l0) (ci := 1) (k := 0) (v := .ref S.2) (C := RX1) (T := TX1) (N := 7) (ty := .object "java/util/ArrayList") hx hb hts hown hE hk hH hS rfl in_X1 tyX1_ok nmX1 rfl (by decide) (hts _ q231) (fun _ h9 => h9) rfl hnm rfl rfl rfl rfl rfl e4 dX1_init_12 (fun H locs hH hS => ?_)
  refine lv_aload_n (pc := 15) hx hb dX1_init_15 rfl (lv_at hl 0 rfl) ?_
  obtain ⟨S5, c2_5, n2_5, eS5, hf, hC5, hN5⟩ := nwo hf
  refine g_newo (pc := 16) (ci := 15) (C := RJ2) (T := TJ2) (N := 3) (fs := [.int 0, .null, .int 0]) hx hb hts hown hE hA hk hH hS in_J2 tyJ2_ok q177 q178 q101 rfl (fun j hj => by rcases (show j = 0 ∨ j = 1 ∨ j = 2 by omega) with rfl | rfl | rfl <;> rfl) eS5 (Nat.le_trans (by omega) hkc) (Nat.le_trans (by omega) hks) dX1_init_16 (fun H hH hS => ?_)
  have hkc : kc + 1 + c3 + 1 + c2_5 ≤ mc := by omega
  have hks : ks + 3 + n3 + 3 + n2_5 ≤ ms := by omega
  refine lv_dup (pc := 19) hx hb dX1_init_19 rfl ?_
  obtain ⟨_, S6, c6, n6, c2_6, n2_6, e6, hf, hC6, hN6⟩ := gbo hf
  refine g_callI (pc := 20) (o := (some S4.2)) (b := S4.2) (As := []) (rest := [.ref S4.2, .ref l0]) hc (j_nAL_init hJ S4.2  S5 () S6 c6 n6 e6) (cwI 0 hts (lw_meth q181) rfl rfl rfl (hts _ q101) (hts _ q179) (hts _ q180) rfl hdiJ2_init ⟨Nat.le_of_ble_eq_true rfl, Nat.le_of_ble_eq_true rfl⟩) rfl rfl hl.1 rfl (lv_room (Nat.le_of_ble_eq_true rfl)) dX1_init_20 hH hS (by omega) (by omega) (fun H locs hH hS => ?_)
  have hkc : kc + 1 + c3 + 1 + c6 + c2_6 ≤ mc := by omega
  have hks : ks + 3 + n3 + 3 + n6 + n2_6 ≤ ms := by omega
  obtain ⟨S7, e7, hf⟩ := bdo hf
  refine g_putF (pc := 23) (o := (some l0)) (a := l0) (ci := 1) (k := 1) (v := .ref S4.2) (C := RX1) (T := TX1) (N := 7) (ty := .object "java/util/ArrayList") hx hb hts hown hE hk hH hS rfl in_X1 tyX1_ok nmX1 rfl (by decide) (hts _ q233) (fun _ h9 => h9) rfl hnm rfl rfl rfl rfl rfl e7 dX1_init_23 (fun H locs hH hS => ?_)
  refine lv_aload_n (pc := 26) hx hb dX1_init_26 rfl (lv_at hl 0 rfl) ?_
  obtain ⟨S8, c2_8, n2_8, eS8, hf, hC8, hN8⟩ := nwo hf
  refine g_newo (pc := 27) (ci := 15) (C := RJ2) (T := TJ2) (N := 3) (fs := [.int 0, .null, .int 0]) hx hb hts hown hE hA hk hH hS in_J2 tyJ2_ok q177 q178 q101 rfl (fun j hj => by rcases (show j = 0 ∨ j = 1 ∨ j = 2 by omega) with rfl | rfl | rfl <;> rfl) eS8 (Nat.le_trans (by omega) hkc) (Nat.le_trans (by omega) hks) dX1_init_27 (fun H hH hS => ?_)
  have hkc : kc + 1 + c3 + 1 + c6 + 1 + c2_8 ≤ mc := by omega
  have hks : ks + 3 + n3 + 3 + n6 + 3 + n2_8 ≤ ms := by omega
  refine lv_dup (pc := 30) hx hb dX1_init_30 rfl ?_
  obtain ⟨_, S9, c9, n9, c2_9, n2_9, e9, hf, hC9, hN9⟩ := gbo hf
  refine g_callI (pc := 31) (o := (some S7.2)) (b := S7.2) (As := []) (rest := [.ref S7.2, .ref l0]) hc (j_nAL_init hJ S7.2  S8 () S9 c9 n9 e9) (cwI 0 hts (lw_meth q181) rfl rfl rfl (hts _ q101) (hts _ q179) (hts _ q180) rfl hdiJ2_init ⟨Nat.le_of_ble_eq_true rfl, Nat.le_of_ble_eq_true rfl⟩) rfl rfl hl.1 rfl (lv_room (Nat.le_of_ble_eq_true rfl)) dX1_init_31 hH hS (by omega) (by omega) (fun H locs hH hS => ?_)
  have hkc : kc + 1 + c3 + 1 + c6 + 1 + c9 + c2_9 ≤ mc := by omega
  have hks : ks + 3 + n3 + 3 + n6 + 3 + n9 + n2_9 ≤ ms := by omega
  obtain ⟨S10, e10, hf⟩ := bdo hf
  refine g_putF (pc := 34) (o := (some l0)) (a := l0) (ci := 1) (k := 2) (v := .ref S7.2) (C := RX1) (T := TX1) (N := 7) (ty := .object "java/util/ArrayList") hx hb hts hown hE hk hH hS rfl in_X1 tyX1_ok nmX1 rfl (by decide) (hts _ q235) (fun _ h9 => h9) rfl hnm rfl rfl rfl rfl rfl e10 dX1_init_34 (fun H locs hH hS => ?_)
  refine lv_aload_n (pc := 37) hx hb dX1_init_37 rfl (lv_at hl 0 rfl) ?_
  obtain ⟨S11, c2_11, n2_11, eS11, hf, hC11, hN11⟩ := nwo hf
  refine g_newo (pc := 38) (ci := 16) (C := RJ4) (T := TJ4) (N := 4) (fs := [.int 0, .int 0, .null, .null]) hx hb hts hown hE hA hk hH hS in_J4 tyJ4_ok q210 q211 q103 rfl (fun j hj => by rcases (show j = 0 ∨ j = 1 ∨ j = 2 ∨ j = 3 by omega) with rfl | rfl | rfl | rfl <;> rfl) eS11 (Nat.le_trans (by omega) hkc) (Nat.le_trans (by omega) hks) dX1_init_38 (fun H hH hS => ?_)
  have hkc : kc + 1 + c3 + 1 + c6 + 1 + c9 + 1 + c2_11 ≤ mc := by omega
  have hks : ks + 3 + n3 + 3 + n6 + 3 + n9 + 4 + n2_11 ≤ ms := by omega
  refine lv_dup (pc := 41) hx hb dX1_init_41 rfl ?_
  obtain ⟨_, S12, c12, n12, c2_12, n2_12, e12, hf, hC12, hN12⟩ := gbo hf
  refine g_callI (pc := 42) (o := (some S10.2)) (b := S10.2) (As := []) (rest := [.ref S10.2, .ref l0]) hc (j_nLL_init hJ S10.2  S11 () S12 c12 n12 e12) (cwI 0 hts (lw_meth q214) rfl rfl rfl (hts _ q103) (hts _ q212) (hts _ q213) rfl hdiJ4_init ⟨Nat.le_of_ble_eq_true rfl, Nat.le_of_ble_eq_true rfl⟩) rfl rfl hl.1 rfl (lv_room (Nat.le_of_ble_eq_true rfl)) dX1_init_42 hH hS (by omega) (by omega) (fun H locs hH hS => ?_)
  have hkc : kc + 1 + c3 + 1 + c6 + 1 + c9 + 1 + c12 + c2_12 ≤ mc := by omega
  have hks : ks + 3 + n3 + 3 + n6 + 3 + n9 + 4 + n12 + n2_12 ≤ ms := by omega
  obtain ⟨S13, e13, hf⟩ := bdo hf
  refine g_putF (pc := 45) (o := (some l0)) (a := l0) (ci := 1) (k := 3) (v := .ref S10.2) (C := RX1) (T := TX1) (N := 7) (ty := .object "java/util/LinkedList") hx hb hts hown hE hk hH hS rfl in_X1 tyX1_ok nmX1 rfl (by decide) (hts _ q237) (fun _ h9 => h9) rfl hnm rfl rfl rfl rfl rfl e13 dX1_init_45 (fun H locs hH hS => ?_)
  refine lv_aload_n (pc := 48) hx hb dX1_init_48 rfl (lv_at hl 0 rfl) ?_
  refine lv_iconst (pc := 49) (v := nI 1) hx hb dX1_init_49 rfl ?_
  obtain ⟨S14, e14, hf⟩ := bdo hf
  refine g_put (pc := 50) (o := (some l0)) (a := l0) (ci := 1) (k := 6) (v := .int (nI 1)) (C := RX1) (T := TX1) (N := 7) (ty := .int) hx hb hts hown hE hk hH hS rfl in_X1 tyX1_ok nmX1 rfl (by decide) (hts _ q243) (fun _ h9 => h9) rfl rfl rfl rfl rfl e14 dX1_init_50 (fun H locs hH hS => ?_)
  exact g_vret (pc := 53) hx hb hr hlk hH hS hkc hks hf dX1_init_53
theorem mX1_init {l : Launch} {G : gG} {Rp : gM → gM → Nat → Prop} (hk : rOK Rp) (hJ : JDK l G Rp) {S S2 : gS} {r2 : Unit} {C N : Nat} {l0 : Nat} (hf : fX1_init l0 S = some (r2, S2, C, N)) : gMet l yX1_init cX1_init 1 (none) 15 540 G Rp [.ref l0] S none S2 C N := by
  refine g_start (by decide) (Nat.le_of_ble_eq_true rfl) (fun p e s m args below meth c ls hc hl hH => ?_)
  have hl : lv_has ls 1 [(0, .ref l0)] := hl
  exact wX1_init_b0 hk hJ hc l0 S _ _ ls 0 0 C N (by omega) (by omega) hH va_S.rf (lv_sub hl [0] rfl) hf
end
section
variable {r : Option Nat} {Sf : gS}
def fX0_copied (l0 : Nat) (S : gS) : gO (Option Nat) :=
  nw S (cO 1 [.null, .null, .null, .null, .null, .int 0, .int 0]) 7 fun S1 =>
  gb (fX1_init S.2 S1) fun _ S2 =>
  bd (rdR S2 l0 0 0) fun v3 =>
  bd (chk S2 S.2 1) fun _ =>
  gb (fX1_becomes S.2 v3 S2) fun v4 S4 =>
  some (v4, S4, 0, 0)
theorem wX0_copied_b0 (hk : rOK Rp) (hJ : JDK l G Rp) (hc : gC p s m args meth c G RX0 "copied" cX0_copied 1 (some (.object "CreditBroker$World"))) (l0 : Nat) (S : gS) (H : Heap) (locs : List Loc) (ls : Array Slot) (kc ks C N : Nat) (hkc : kc + C ≤ mc) (hks : ks + N ≤ ms) (hH : hp G Rp S H) (hS : va_S G.2.2.2 s.heap H locs) (hl : lv_has ls 1 [(0, .ref l0)]) (hf : fX0_copied l0 S = some (r, Sf, C, N)) : W p l e (gR 18 609 mc ms) s m args below meth c H locs kc ks (gQ below G Rp (some (va_rf r)) Sf args s mc ms) (F0 m 0 ls []) := by
  obtain ⟨hx, hb, hr, hlk, hml, hown, hts, hE, hA, hnm⟩ := hc
  have hc : gC p s m args meth c G RX0 "copied" cX0_copied 1 (some (.object "CreditBroker$World")) := ⟨hx, hb, hr, hlk, hml, hown, hts, hE, hA, hnm⟩
  unfold fX0_copied at hf
  obtain ⟨S1, c2_1, n2_1, eS1, hf, hC1, hN1⟩ := nwo hf
  refine g_newo (pc := 0) (ci := 1) (C := RX1) (T := TX1) (N := 7) (fs := [.null, .null, .null, .null, .null, .int 0, .int 0]) hx hb hts hown hE hA hk hH hS in_X1 tyX1_ok q171 q172 q98 rfl (fun j hj => by rcases (show j = 0 ∨ j = 1 ∨ j = 2 ∨ j = 3 ∨ j = 4 ∨ j = 5 ∨ j = 6 by omega) with rfl | rfl | rfl | rfl | rfl | rfl | rfl <;> rfl) eS1 (Nat.le_trans (by omega) hkc) (Nat.le_trans (by omega) hks) dX0_copied_0 (fun H hH hS => ?_)
  have hkc : kc + 1 + c2_1 ≤ mc := by omega
  have hks : ks + 7 + n2_1 ≤ ms := by omega
  refine lv_dup (pc := 3) hx hb dX0_copied_3 rfl ?_
  obtain ⟨_, S2, c2, n2, c2_2, n2_2, e2, hf, hC2, hN2⟩ := gbo hf
  refine g_callIN (pc := 4) (o := (some S.2)) (b := S.2) (As := []) (rest := [.ref S.2]) hc (mX1_init hk hJ (l0 := S.2) e2) q173 q175 q98 q174 rfl hdiX1_init ⟨Nat.le_of_ble_eq_true rfl, Nat.le_of_ble_eq_true rfl⟩ rfl rfl hl.1 rfl (lv_room (Nat.le_of_ble_eq_true rfl)) dX0_copied_4 hH hS (by omega) (by omega) (fun H locs hH hS => ?_)
  have hkc : kc + 1 + c2 + c2_2 ≤ mc := by omega
  have hks : ks + 7 + n2 + n2_2 ≤ ms := by omega
  refine lv_aload_n (pc := 7) hx hb dX0_copied_7 rfl (lv_at hl 0 rfl) ?_
  obtain ⟨v3, e3, hf⟩ := bdo hf
  refine g_get (pc := 8) (o := (some l0)) (a := l0) (ci := 0) (k := 0) (v := va_rf v3) (C := RX0) (T := TX0) (N := 7) hx hb hts hown hE hk hH in_X0 rfl (by decide) (hts _ q272) (fun _ h9 => h9) rfl (rdR_o e3) dX0_copied_8 ?_
  obtain ⟨_, ek4, hf⟩ := bdo hf
  obtain ⟨v4, S4, c4, n4, c2_4, n2_4, e4, hf, hC4, hN4⟩ := gbo hf
  refine g_callV (pc := 11) (o := (some S.2)) (b := S.2) (As := [va_rf v3]) (rest := []) (st1 := [va_rf v4]) hc (mX1_becomes hk hJ (l0 := S.2) (l1 := v3) e4) (cwV 1 hts (lw_V q2682 q2683 q2684 q98 q2685) rfl rfl rfl hdX1_becomes ⟨Nat.le_of_ble_eq_true rfl, Nat.le_of_ble_eq_true rfl⟩) (g_recv hE hk hH (ci := 1) (q := (RX1, TX1, 7)) rfl (chk_o ek4).choose_spec) rfl rfl hl.1 rfl rfl (lv_room (Nat.le_of_ble_eq_true rfl)) dX0_copied_11 hH hS (by omega) (by omega) (fun H locs hH hS => ?_)
  have hkc : kc + 1 + c2 + c4 + c2_4 ≤ mc := by omega
  have hks : ks + 7 + n2 + n4 + n2_4 ≤ ms := by omega
  exact g_aret (pc := 14) (v := v4) hx hb hr (Or.inl ⟨_, rfl⟩) hlk hH hS hkc hks hf dX0_copied_14
theorem mX0_copied {l : Launch} {G : gG} {Rp : gM → gM → Nat → Prop} (hk : rOK Rp) (hJ : JDK l G Rp) {S S2 : gS} {r2 : Option Nat} {C N : Nat} {l0 : Nat} (hf : fX0_copied l0 S = some (r2, S2, C, N)) : gMet l yX0_copied cX0_copied 1 (some (.object "CreditBroker$World")) 18 609 G Rp [.ref l0] S (some (va_rf r2)) S2 C N := by
  refine g_start (by decide) (Nat.le_of_ble_eq_true rfl) (fun p e s m args below meth c ls hc hl hH => ?_)
  have hl : lv_has ls 1 [(0, .ref l0)] := hl
  exact wX0_copied_b0 hk hJ hc l0 S _ _ ls 0 0 C N (by omega) (by omega) hH va_S.rf (lv_sub hl [0] rfl) hf
end
section
variable {r : Int32} {Sf : gS}
def fX6_isOfLength (l0 : Nat) (l1 : Int32) (S : gS) : gO Int32 :=
  bd (rdI S l0 8 2) fun v1 =>
  if v1 = 0 then
    bd (rdR S l0 8 1) fun v3 =>
    bd v3 fun a5 =>
    gb (nAL_size a5  S) fun v4 S4 =>
    if l1 = v4 then
      zg (nI 1) S4
    else
      zg (nI 0) S4
  else
    bd (rdR S l0 8 1) fun v7 =>
    bd v7 fun a9 =>
    gb (nAL_size a9  S) fun v8 S8 =>
    if l1 < v8 then
      zg (nI 0) S8
    else
      zg (nI 1) S8
theorem wX6_isOfLength_b0 (hk : rOK Rp) (hJ : JDK l G Rp) (hc : gC p s m args meth c G RX6 "isOfLength" cX6_isOfLength 2 (some .boolean)) (l0 : Nat) (l1 : Int32) (S : gS) (H : Heap) (locs : List Loc) (ls : Array Slot) (kc ks C N : Nat) (hkc : kc + C ≤ mc) (hks : ks + N ≤ ms) (hH : hp G Rp S H) (hS : va_S G.2.2.2 s.heap H locs) (hl : lv_has ls 2 [(0, .ref l0), (1, .int l1)]) (hf : fX6_isOfLength l0 l1 S = some (r, Sf, C, N)) : W p l e (gR 15 540 mc ms) s m args below meth c H locs kc ks (gQ below G Rp (some (.int r)) Sf args s mc ms) (F0 m 0 ls []) := by
  obtain ⟨hx, hb, hr, hlk, hml, hown, hts, hE, hA, hnm⟩ := hc
  have hc : gC p s m args meth c G RX6 "isOfLength" cX6_isOfLength 2 (some .boolean) := ⟨hx, hb, hr, hlk, hml, hown, hts, hE, hA, hnm⟩
  unfold fX6_isOfLength at hf
  refine lv_aload_n (pc := 0) hx hb dX6_isOfLength_0 rfl (lv_at hl 0 rfl) ?_
  obtain ⟨v1, e1, hf⟩ := bdo hf
  refine g_get (pc := 1) (o := (some l0)) (a := l0) (ci := 8) (k := 2) (v := .int v1) (C := RX6) (T := TX6) (N := 3) hx hb hts hown hE hk hH in_X6 rfl (by decide) (hts _ q984) (fun _ h9 => h9) rfl (rdI_o e1) dX6_isOfLength_1 ?_
  refine lv_if_eq (pc := 4) (tgt := 26) hx hb dX6_isOfLength_4 (by decide) (fun c2 => ?_) (fun c2 => ?_)
  · rw [if_pos c2] at hf
    refine lv_iload_n (pc := 26) hx hb dX6_isOfLength_26 rfl (lv_at hl 1 rfl) ?_
    refine lv_aload_n (pc := 27) hx hb dX6_isOfLength_27 rfl (lv_at hl 0 rfl) ?_
    obtain ⟨v3, e3, hf⟩ := bdo hf
    refine g_get (pc := 28) (o := (some l0)) (a := l0) (ci := 8) (k := 1) (v := va_rf v3) (C := RX6) (T := TX6) (N := 3) hx hb hts hown hE hk hH in_X6 rfl (by decide) (hts _ q983) (fun _ h9 => h9) rfl (rdR_o e3) dX6_isOfLength_28 ?_
    obtain ⟨a5, ea5, hf⟩ := bdo hf
    obtain ⟨v4, S4, c4, n4, c2_4, n2_4, e4, hf, hC4, hN4⟩ := gbo hf
    refine g_callV (pc := 31) (o := v3) (b := a5) (As := []) (rest := [.int l1]) (st1 := [.int v4, .int l1]) hc (j_nAL_size hJ a5  S v4 S4 c4 n4 e4) (cwV 0 hts (lw_V q1119 q1120 q1121 q101 q1122) rfl rfl rfl hdJ2_size ⟨Nat.le_of_ble_eq_true rfl, Nat.le_of_ble_eq_true rfl⟩) (j_recv hJ _ _ _ _ 0 _ _ hE hH hS (adtR (t := 0) (show bd _ _ = some _ from e4)).choose_spec) ea5 rfl hl.1 rfl rfl (lv_room (Nat.le_of_ble_eq_true rfl)) dX6_isOfLength_31 hH hS (by omega) (by omega) (fun H locs hH hS => ?_)
    have hkc : kc + c4 + c2_4 ≤ mc := by omega
    have hks : ks + n4 + n2_4 ≤ ms := by omega
    refine lv_icmp_ne (pc := 34) (tgt := 41) hx hb dX6_isOfLength_34 (by decide) (fun c6 => ?_) (fun c6 => ?_)
    · rw [if_neg c6] at hf
      refine lv_iconst (pc := 41) (v := nI 0) hx hb dX6_isOfLength_41 rfl ?_
      exact g_zret (pc := 42) hx hb hr hlk hH hS hkc hks hf dX6_isOfLength_42
    · rw [if_pos c6] at hf
      refine lv_iconst (pc := 37) (v := nI 1) hx hb dX6_isOfLength_37 rfl ?_
      refine lv_goto (pc := 38) (tgt := 42) hx hb dX6_isOfLength_38 (by decide) ?_
      exact g_zret (pc := 42) hx hb hr hlk hH hS hkc hks hf dX6_isOfLength_42
  · rw [if_neg c2] at hf
    refine lv_iload_n (pc := 7) hx hb dX6_isOfLength_7 rfl (lv_at hl 1 rfl) ?_
    refine lv_aload_n (pc := 8) hx hb dX6_isOfLength_8 rfl (lv_at hl 0 rfl) ?_
    obtain ⟨v7, e7, hf⟩ := bdo hf
    refine g_get (pc := 9) (o := (some l0)) (a := l0) (ci := 8) (k := 1) (v := va_rf v7) (C := RX6) (T := TX6) (N := 3) hx hb hts hown hE hk hH in_X6 rfl (by decide) (hts _ q983) (fun _ h9 => h9) rfl (rdR_o e7) dX6_isOfLength_9 ?_
    obtain ⟨a9, ea9, hf⟩ := bdo hf
    obtain ⟨v8, S8, c8, n8, c2_8, n2_8, e8, hf, hC8, hN8⟩ := gbo hf
    refine g_callV (pc := 12) (o := v7) (b := a9) (As := []) (rest := [.int l1]) (st1 := [.int v8, .int l1]) hc (j_nAL_size hJ a9  S v8 S8 c8 n8 e8) (cwV 0 hts (lw_V q1119 q1120 q1121 q101 q1122) rfl rfl rfl hdJ2_size ⟨Nat.le_of_ble_eq_true rfl, Nat.le_of_ble_eq_true rfl⟩) (j_recv hJ _ _ _ _ 0 _ _ hE hH hS (adtR (t := 0) (show bd _ _ = some _ from e8)).choose_spec) ea9 rfl hl.1 rfl rfl (lv_room (Nat.le_of_ble_eq_true rfl)) dX6_isOfLength_12 hH hS (by omega) (by omega) (fun H locs hH hS => ?_)
    have hkc : kc + c8 + c2_8 ≤ mc := by omega
    have hks : ks + n8 + n2_8 ≤ ms := by omega
    refine lv_icmp_lt (pc := 15) (tgt := 22) hx hb dX6_isOfLength_15 (by decide) (fun c10 => ?_) (fun c10 => ?_)
    · rw [if_pos c10] at hf
      refine lv_iconst (pc := 22) (v := nI 0) hx hb dX6_isOfLength_22 rfl ?_
      refine lv_goto (pc := 23) (tgt := 42) hx hb dX6_isOfLength_23 (by decide) ?_
      exact g_zret (pc := 42) hx hb hr hlk hH hS hkc hks hf dX6_isOfLength_42
    · rw [if_neg c10] at hf
      refine lv_iconst (pc := 18) (v := nI 1) hx hb dX6_isOfLength_18 rfl ?_
      refine lv_goto (pc := 19) (tgt := 42) hx hb dX6_isOfLength_19 (by decide) ?_
      exact g_zret (pc := 42) hx hb hr hlk hH hS hkc hks hf dX6_isOfLength_42
theorem mX6_isOfLength {l : Launch} {G : gG} {Rp : gM → gM → Nat → Prop} (hk : rOK Rp) (hJ : JDK l G Rp) {S S2 : gS} {r2 : Int32} {C N : Nat} {l0 : Nat} {l1 : Int32} (hf : fX6_isOfLength l0 l1 S = some (r2, S2, C, N)) : gMet l yX6_isOfLength cX6_isOfLength 2 (some .boolean) 15 540 G Rp [.ref l0, .int l1] S (some (.int r2)) S2 C N := by
  refine g_start (by decide) (Nat.le_of_ble_eq_true rfl) (fun p e s m args below meth c ls hc hl hH => ?_)
  have hl : lv_has ls 2 [(0, .ref l0), (1, .int l1)] := hl
  exact wX6_isOfLength_b0 hk hJ hc l0 l1 S _ _ ls 0 0 C N (by omega) (by omega) hH va_S.rf (lv_sub hl [0, 1] rfl) hf
end
section
variable {r : Option Nat} {Sf : gS}
def fX6_at (G : gG) (l0 : Nat) (l1 : Int32) (S : gS) : gO (Option Nat) :=
  bd (rdR S l0 8 1) fun v1 =>
  bd v1 fun a3 =>
  gb (nAL_size a3  S) fun v2 S2 =>
  if v2 ≤ l1 then
    some ((some (G.2.2.1 5)), S2, 0, 0)
  else
    bd (rdR S2 l0 8 1) fun v5 =>
    bd v5 fun a7 =>
    gb (nAL_get a7 l1 S2) fun v6 S6 =>
    bd (cka S6 v6 5) fun _ =>
    some (v6, S6, 0, 0)
theorem wX6_at_b0 (hk : rOK Rp) (hJ : JDK l G Rp) (hc : gC p s m args meth c G RX6 "at" cX6_at 2 (some (.object "java/lang/String"))) (l0 : Nat) (l1 : Int32) (S : gS) (H : Heap) (locs : List Loc) (ls : Array Slot) (kc ks C N : Nat) (hkc : kc + C ≤ mc) (hks : ks + N ≤ ms) (hH : hp G Rp S H) (hS : va_S G.2.2.2 s.heap H locs) (hl : lv_has ls 2 [(0, .ref l0), (1, .int l1)]) (hf : fX6_at G l0 l1 S = some (r, Sf, C, N)) : W p l e (gR 15 540 mc ms) s m args below meth c H locs kc ks (gQ below G Rp (some (va_rf r)) Sf args s mc ms) (F0 m 0 ls []) := by
  obtain ⟨hx, hb, hr, hlk, hml, hown, hts, hE, hA, hnm⟩ := hc
  have hc : gC p s m args meth c G RX6 "at" cX6_at 2 (some (.object "java/lang/String")) := ⟨hx, hb, hr, hlk, hml, hown, hts, hE, hA, hnm⟩
  unfold fX6_at at hf
  refine lv_iload_n (pc := 0) hx hb dX6_at_0 rfl (lv_at hl 1 rfl) ?_
  refine lv_aload_n (pc := 1) hx hb dX6_at_1 rfl (lv_at hl 0 rfl) ?_
  obtain ⟨v1, e1, hf⟩ := bdo hf
  refine g_get (pc := 2) (o := (some l0)) (a := l0) (ci := 8) (k := 1) (v := va_rf v1) (C := RX6) (T := TX6) (N := 3) hx hb hts hown hE hk hH in_X6 rfl (by decide) (hts _ q983) (fun _ h9 => h9) rfl (rdR_o e1) dX6_at_2 ?_
  obtain ⟨a3, ea3, hf⟩ := bdo hf
  obtain ⟨v2, S2, c2, n2, c2_2, n2_2, e2, hf, hC2, hN2⟩ := gbo hf
  refine g_callV (pc := 5) (o := v1) (b := a3) (As := []) (rest := [.int l1]) (st1 := [.int v2, .int l1]) hc (j_nAL_size hJ a3  S v2 S2 c2 n2 e2) (cwV 0 hts (lw_V q1119 q1120 q1121 q101 q1122) rfl rfl rfl hdJ2_size ⟨Nat.le_of_ble_eq_true rfl, Nat.le_of_ble_eq_true rfl⟩) (j_recv hJ _ _ _ _ 0 _ _ hE hH hS (adtR (t := 0) (show bd _ _ = some _ from e2)).choose_spec) ea3 rfl hl.1 rfl rfl (lv_room (Nat.le_of_ble_eq_true rfl)) dX6_at_5 hH hS (by omega) (by omega) (fun H locs hH hS => ?_)
  have hkc : kc + c2 + c2_2 ≤ mc := by omega
  have hks : ks + n2 + n2_2 ≤ ms := by omega
  refine lv_icmp_ge (pc := 8) (tgt := 25) hx hb dX6_at_8 (by decide) (fun c4 => ?_) (fun c4 => ?_)
  · rw [if_pos c4] at hf
    refine g_ldcS (pc := 25) hx hb hown hE.2.2.2.1.2.2.2.1 dX6_at_25 ?_
    exact g_aret (pc := 27) (v := (some (G.2.2.1 5))) hx hb hr (Or.inl ⟨_, rfl⟩) hlk hH hS hkc hks hf dX6_at_27
  · rw [if_neg c4] at hf
    refine lv_aload_n (pc := 11) hx hb dX6_at_11 rfl (lv_at hl 0 rfl) ?_
    obtain ⟨v5, e5, hf⟩ := bdo hf
    refine g_get (pc := 12) (o := (some l0)) (a := l0) (ci := 8) (k := 1) (v := va_rf v5) (C := RX6) (T := TX6) (N := 3) hx hb hts hown hE hk hH in_X6 rfl (by decide) (hts _ q983) (fun _ h9 => h9) rfl (rdR_o e5) dX6_at_12 ?_
    refine lv_iload_n (pc := 15) hx hb dX6_at_15 rfl (lv_at hl 1 rfl) ?_
    obtain ⟨a7, ea7, hf⟩ := bdo hf
    obtain ⟨v6, S6, c6, n6, c2_6, n2_6, e6, hf, hC6, hN6⟩ := gbo hf
    refine g_callV (pc := 16) (o := v5) (b := a7) (As := [.int l1]) (rest := []) (st1 := [va_rf v6]) hc (j_nAL_get hJ a7 l1 S2 v6 S6 c6 n6 e6) (cwV 1 hts (lw_V q1594 q1223 q1224 q101 q1225) rfl rfl rfl hdJ2_get ⟨Nat.le_of_ble_eq_true rfl, Nat.le_of_ble_eq_true rfl⟩) (j_recv hJ _ _ _ _ 0 _ _ hE hH hS (adtR (t := 0) (show bd _ _ = some _ from e6)).choose_spec) ea7 rfl hl.1 rfl rfl (lv_room (Nat.le_of_ble_eq_true rfl)) dX6_at_16 hH hS (by omega) (by omega) (fun H locs hH hS => ?_)
    have hkc : kc + c2 + c6 + c2_6 ≤ mc := by omega
    have hks : ks + n2 + n6 + n2_6 ≤ ms := by omega
    obtain ⟨_, e8, hf⟩ := bdo hf
    refine g_casta (pc := 19) (o := v6) (t := 5) (ci := 25) (C := RJ9) (T := TJ9) (N := 4) hx hb hts hown hE (j_recv hJ) hH hS rfl rfl q1595 e8 dX6_at_19 ?_
    refine lv_goto (pc := 22) (tgt := 27) hx hb dX6_at_22 (by decide) ?_
    exact g_aret (pc := 27) (v := v6) hx hb hr (Or.inl ⟨_, rfl⟩) hlk hH hS hkc hks hf dX6_at_27
theorem mX6_at {l : Launch} {G : gG} {Rp : gM → gM → Nat → Prop} (hk : rOK Rp) (hJ : JDK l G Rp) {S S2 : gS} {r2 : Option Nat} {C N : Nat} {l0 : Nat} {l1 : Int32} (hf : fX6_at G l0 l1 S = some (r2, S2, C, N)) : gMet l yX6_at cX6_at 2 (some (.object "java/lang/String")) 15 540 G Rp [.ref l0, .int l1] S (some (va_rf r2)) S2 C N := by
  refine g_start (by decide) (Nat.le_of_ble_eq_true rfl) (fun p e s m args below meth c ls hc hl hH => ?_)
  have hl : lv_has ls 2 [(0, .ref l0), (1, .int l1)] := hl
  exact wX6_at_b0 hk hJ hc l0 l1 S _ _ ls 0 0 C N (by omega) (by omega) hH va_S.rf (lv_sub hl [0, 1] rfl) hf
end
section
variable {r : Int32} {Sf : gS}
def fX6_takes (G : gG) (l0 : Nat) (l1 : Int32) (l2 : Option Nat) (S : gS) : gO Int32 :=
  bd (chk S l0 8) fun _ =>
  gb (fX6_at G l0 l1 S) fun v1 S1 =>
  bd v1 fun a3 =>
  gb (nSt_eq a3 (some (G.2.2.1 5)) S1) fun v2 S2 =>
  if v2 = 0 then
    bd (chk S2 l0 8) fun _ =>
    gb (fX6_at G l0 l1 S2) fun v5 S5 =>
    bd v5 fun a7 =>
    gb (nSt_eq a7 l2 S5) fun v6 S6 =>
    if v6 = 0 then
      zg (nI 0) S6
    else
      zg (nI 1) S6
  else
    zg (nI 1) S2
theorem wX6_takes_b0 (hk : rOK Rp) (hJ : JDK l G Rp) (hc : gC p s m args meth c G RX6 "takes" cX6_takes 3 (some .boolean)) (l0 : Nat) (l1 : Int32) (l2 : Option Nat) (S : gS) (H : Heap) (locs : List Loc) (ls : Array Slot) (kc ks C N : Nat) (hkc : kc + C ≤ mc) (hks : ks + N ≤ ms) (hH : hp G Rp S H) (hS : va_S G.2.2.2 s.heap H locs) (hl : lv_has ls 3 [(0, .ref l0), (1, .int l1), (2, va_rf l2)]) (hf : fX6_takes G l0 l1 l2 S = some (r, Sf, C, N)) : W p l e (gR 16 561 mc ms) s m args below meth c H locs kc ks (gQ below G Rp (some (.int r)) Sf args s mc ms) (F0 m 0 ls []) := by
  obtain ⟨hx, hb, hr, hlk, hml, hown, hts, hE, hA, hnm⟩ := hc
  have hc : gC p s m args meth c G RX6 "takes" cX6_takes 3 (some .boolean) := ⟨hx, hb, hr, hlk, hml, hown, hts, hE, hA, hnm⟩
  unfold fX6_takes at hf
  refine lv_aload_n (pc := 0) hx hb dX6_takes_0 rfl (lv_at hl 0 rfl) ?_
  refine lv_iload_n (pc := 1) hx hb dX6_takes_1 rfl (lv_at hl 1 rfl) ?_
  obtain ⟨_, ek1, hf⟩ := bdo hf
  obtain ⟨v1, S1, c1, n1, c2_1, n2_1, e1, hf, hC1, hN1⟩ := gbo hf
  refine g_callV (pc := 2) (o := (some l0)) (b := l0) (As := [.int l1]) (rest := []) (st1 := [va_rf v1]) hc (mX6_at hk hJ (l0 := l0) (l1 := l1) e1) (cwV 1 hts (lw_V q1590 q1592 qs23 q129 q1593) rfl rfl rfl hdX6_at ⟨Nat.le_of_ble_eq_true rfl, Nat.le_of_ble_eq_true rfl⟩) (g_recv hE hk hH (ci := 8) (q := (RX6, TX6, 3)) rfl (chk_o ek1).choose_spec) rfl rfl hl.1 rfl rfl (lv_room (Nat.le_of_ble_eq_true rfl)) dX6_takes_2 hH hS (by omega) (by omega) (fun H locs hH hS => ?_)
  have hkc : kc + c1 + c2_1 ≤ mc := by omega
  have hks : ks + n1 + n2_1 ≤ ms := by omega
  refine g_ldcS (pc := 5) hx hb hown hE.2.2.2.1.2.2.2.1 dX6_takes_5 ?_
  obtain ⟨a3, ea3, hf⟩ := bdo hf
  obtain ⟨v2, S2, c2, n2, c2_2, n2_2, e2, hf, hC2, hN2⟩ := gbo hf
  refine g_callV (pc := 7) (o := v1) (b := a3) (As := [.ref (G.2.2.1 5)]) (rest := []) (st1 := [.int v2]) hc (j_nSt_eq hJ a3 (some (G.2.2.1 5)) S1 v2 S2 c2 n2 e2) (cwV 1 hts (lw_V q1031 q1032 q1033 q110 q1034) rfl rfl rfl hdJ9_equals ⟨Nat.le_of_ble_eq_true rfl, Nat.le_of_ble_eq_true rfl⟩) (j_recv hJ _ _ _ _ 5 _ _ hE hH hS (adtR (t := 5) (show bd _ _ = some _ from e2)).choose_spec) ea3 rfl hl.1 rfl rfl (lv_room (Nat.le_of_ble_eq_true rfl)) dX6_takes_7 hH hS (by omega) (by omega) (fun H locs hH hS => ?_)
  have hkc : kc + c1 + c2 + c2_2 ≤ mc := by omega
  have hks : ks + n1 + n2 + n2_2 ≤ ms := by omega
  refine lv_if_ne (pc := 10) (tgt := 25) hx hb dX6_takes_10 (by decide) (fun c4 => ?_) (fun c4 => ?_)
  · rw [if_neg c4] at hf
    refine lv_iconst (pc := 25) (v := nI 1) hx hb dX6_takes_25 rfl ?_
    refine lv_goto (pc := 26) (tgt := 30) hx hb dX6_takes_26 (by decide) ?_
    exact g_zret (pc := 30) hx hb hr hlk hH hS hkc hks hf dX6_takes_30
  · rw [if_pos c4] at hf
    refine lv_aload_n (pc := 13) hx hb dX6_takes_13 rfl (lv_at hl 0 rfl) ?_
    refine lv_iload_n (pc := 14) hx hb dX6_takes_14 rfl (lv_at hl 1 rfl) ?_
    obtain ⟨_, ek5, hf⟩ := bdo hf
    obtain ⟨v5, S5, c5, n5, c2_5, n2_5, e5, hf, hC5, hN5⟩ := gbo hf
    refine g_callV (pc := 15) (o := (some l0)) (b := l0) (As := [.int l1]) (rest := []) (st1 := [va_rf v5]) hc (mX6_at hk hJ (l0 := l0) (l1 := l1) e5) (cwV 1 hts (lw_V q1590 q1592 qs23 q129 q1593) rfl rfl rfl hdX6_at ⟨Nat.le_of_ble_eq_true rfl, Nat.le_of_ble_eq_true rfl⟩) (g_recv hE hk hH (ci := 8) (q := (RX6, TX6, 3)) rfl (chk_o ek5).choose_spec) rfl rfl hl.1 rfl rfl (lv_room (Nat.le_of_ble_eq_true rfl)) dX6_takes_15 hH hS (by omega) (by omega) (fun H locs hH hS => ?_)
    have hkc : kc + c1 + c2 + c5 + c2_5 ≤ mc := by omega
    have hks : ks + n1 + n2 + n5 + n2_5 ≤ ms := by omega
    refine g_aload_n (pc := 18) (o := l2) hx hb dX6_takes_18 rfl (lv_at hl 2 rfl) ?_
    obtain ⟨a7, ea7, hf⟩ := bdo hf
    obtain ⟨v6, S6, c6, n6, c2_6, n2_6, e6, hf, hC6, hN6⟩ := gbo hf
    refine g_callV (pc := 19) (o := v5) (b := a7) (As := [va_rf l2]) (rest := []) (st1 := [.int v6]) hc (j_nSt_eq hJ a7 l2 S5 v6 S6 c6 n6 e6) (cwV 1 hts (lw_V q1031 q1032 q1033 q110 q1034) rfl rfl rfl hdJ9_equals ⟨Nat.le_of_ble_eq_true rfl, Nat.le_of_ble_eq_true rfl⟩) (j_recv hJ _ _ _ _ 5 _ _ hE hH hS (adtR (t := 5) (show bd _ _ = some _ from e6)).choose_spec) ea7 rfl hl.1 rfl rfl (lv_room (Nat.le_of_ble_eq_true rfl)) dX6_takes_19 hH hS (by omega) (by omega) (fun H locs hH hS => ?_)
    have hkc : kc + c1 + c2 + c5 + c6 + c2_6 ≤ mc := by omega
    have hks : ks + n1 + n2 + n5 + n6 + n2_6 ≤ ms := by omega
    refine lv_if_eq (pc := 22) (tgt := 29) hx hb dX6_takes_22 (by decide) (fun c8 => ?_) (fun c8 => ?_)
    · rw [if_pos c8] at hf
      refine lv_iconst (pc := 29) (v := nI 0) hx hb dX6_takes_29 rfl ?_
      exact g_zret (pc := 30) hx hb hr hlk hH hS hkc hks hf dX6_takes_30
    · rw [if_neg c8] at hf
      refine lv_iconst (pc := 25) (v := nI 1) hx hb dX6_takes_25 rfl ?_
      refine lv_goto (pc := 26) (tgt := 30) hx hb dX6_takes_26 (by decide) ?_
      exact g_zret (pc := 30) hx hb hr hlk hH hS hkc hks hf dX6_takes_30
theorem mX6_takes {l : Launch} {G : gG} {Rp : gM → gM → Nat → Prop} (hk : rOK Rp) (hJ : JDK l G Rp) {S S2 : gS} {r2 : Int32} {C N : Nat} {l0 : Nat} {l1 : Int32} {l2 : Option Nat} (hf : fX6_takes G l0 l1 l2 S = some (r2, S2, C, N)) : gMet l yX6_takes cX6_takes 3 (some .boolean) 16 561 G Rp [.ref l0, .int l1, va_rf l2] S (some (.int r2)) S2 C N := by
  refine g_start (by decide) (by simp [lg_sl, va_rf_cat, cat_i, cat_j, cat_r]) (fun p e s m args below meth c ls hc hl hH => ?_)
  have hl : lv_has ls 3 [(0, .ref l0), (1, .int l1), (2, va_rf l2)] := by simpa [lv_args, va_rf_cat, cat_i, cat_j, cat_r] using hl
  exact wX6_takes_b0 hk hJ hc l0 l1 l2 S _ _ ls 0 0 C N (by omega) (by omega) hH va_S.rf (lv_sub hl [0, 1, 2] rfl) hf
end
section
variable {r : Int32} {Sf : gS}
def fX6_covers_2_b25 (G : gG) : Nat → Nat → (Option Nat) → Int32 → Int32 → Int32 → gS → gO Int32
  | 0, _, _, _, _, _, _ => none
  | n + 1, l0, l1, l2, l3, l4, S =>
    if l2 ≤ l4 then
      zg l3 S
    else
      bd l1 fun a3 =>
      bd (chk S a3 8) fun _ =>
      gb (fX6_isOfLength a3 l2 S) fun v2 S2 =>
      if v2 = 0 then
        zg l3 S2
      else
        bd (chk S2 a3 8) fun _ =>
        gb (fX6_at G a3 l4 S2) fun v5 S5 =>
        bd (chk S5 l0 8) fun _ =>
        gb (fX6_takes G l0 l4 v5 S5) fun v6 S6 =>
        fX6_covers_2_b25 G n l0 l1 l2 (l3 &&& v6) (l4 + (nI 1)) S6
theorem wX6_covers_2_b25 (hk : rOK Rp) (hJ : JDK l G Rp) (hc : gC p s m args meth c G RX6 "covers" cX6_covers_2 5 (some .boolean)) : ∀ (n : Nat) (l0 : Nat) (l1 : Option Nat) (l2 : Int32) (l3 : Int32) (l4 : Int32) (S : gS) (H : Heap) (locs : List Loc) (ls : Array Slot) (kc ks C N : Nat), kc + C ≤ mc → ks + N ≤ ms → hp G Rp S H → va_S G.2.2.2 s.heap H locs → lv_has ls 5 [(0, .ref l0), (1, va_rf l1), (2, .int l2), (3, .int l3), (4, .int l4)] → fX6_covers_2_b25 G n l0 l1 l2 l3 l4 S = some (r, Sf, C, N) → W p l e (gR 17 583 mc ms) s m args below meth c H locs kc ks (gQ below G Rp (some (.int r)) Sf args s mc ms) (F0 m 25 ls []) := by
  obtain ⟨hx, hb, hr, hlk, hml, hown, hts, hE, hA, hnm⟩ := hc
  have hc : gC p s m args meth c G RX6 "covers" cX6_covers_2 5 (some .boolean) := ⟨hx, hb, hr, hlk, hml, hown, hts, hE, hA, hnm⟩
  intro n
  induction n with
  | zero => intro l0 l1 l2 l3 l4 S H locs ls kc ks C N _ _ _ _ _ hf; exact absurd hf (fun h => by cases h)
  | succ n ih =>
    intro l0 l1 l2 l3 l4 S H locs ls kc ks C N hkc hks hH hS hl hf
    rw [fX6_covers_2_b25] at hf
    refine lv_iload (pc := 25) hx hb dX6_covers_2_25 (lv_at hl 4 rfl) ?_
    refine lv_iload_n (pc := 27) hx hb dX6_covers_2_27 rfl (lv_at hl 2 rfl) ?_
    refine lv_icmp_ge (pc := 28) (tgt := 60) hx hb dX6_covers_2_28 (by decide) (fun c1 => ?_) (fun c1 => ?_)
    · rw [if_pos c1] at hf
      refine lv_iload_n (pc := 60) hx hb dX6_covers_2_60 rfl (lv_at hl 3 rfl) ?_
      exact g_zret (pc := 61) hx hb hr hlk hH hS hkc hks hf dX6_covers_2_61
    · rw [if_neg c1] at hf
      refine g_aload_n (pc := 31) (o := l1) hx hb dX6_covers_2_31 rfl (lv_at hl 1 rfl) ?_
      refine lv_iload_n (pc := 32) hx hb dX6_covers_2_32 rfl (lv_at hl 2 rfl) ?_
      obtain ⟨a3, ea3, hf⟩ := bdo hf
      obtain ⟨_, ek2, hf⟩ := bdo hf
      obtain ⟨v2, S2, c2, n2, c2_2, n2_2, e2, hf, hC2, hN2⟩ := gbo hf
      refine g_callV (pc := 33) (o := l1) (b := a3) (As := [.int l2]) (rest := []) (st1 := [.int v2]) hc (mX6_isOfLength hk hJ (l0 := a3) (l1 := l2) e2) (cwV 1 hts (lw_V q1586 q1588 qs22 q129 q1589) rfl rfl rfl hdX6_isOfLength ⟨Nat.le_of_ble_eq_true rfl, Nat.le_of_ble_eq_true rfl⟩) (g_recv hE hk hH (ci := 8) (q := (RX6, TX6, 3)) rfl (chk_o ek2).choose_spec) ea3 rfl hl.1 rfl rfl (lv_room (Nat.le_of_ble_eq_true rfl)) dX6_covers_2_33 hH hS (by omega) (by omega) (fun H locs hH hS => ?_)
      have hkc : kc + c2 + c2_2 ≤ mc := by omega
      have hks : ks + n2 + n2_2 ≤ ms := by omega
      refine lv_if_eq (pc := 36) (tgt := 60) hx hb dX6_covers_2_36 (by decide) (fun c4 => ?_) (fun c4 => ?_)
      · rw [if_pos c4] at hf
        refine lv_iload_n (pc := 60) hx hb dX6_covers_2_60 rfl (lv_at hl 3 rfl) ?_
        exact g_zret (pc := 61) hx hb hr hlk hH hS hkc hks hf dX6_covers_2_61
      · rw [if_neg c4] at hf
        refine lv_iload_n (pc := 39) hx hb dX6_covers_2_39 rfl (lv_at hl 3 rfl) ?_
        refine lv_aload_n (pc := 40) hx hb dX6_covers_2_40 rfl (lv_at hl 0 rfl) ?_
        refine lv_iload (pc := 41) hx hb dX6_covers_2_41 (lv_at hl 4 rfl) ?_
        refine g_aload_n (pc := 43) (o := l1) hx hb dX6_covers_2_43 rfl (lv_at hl 1 rfl) ?_
        refine lv_iload (pc := 44) hx hb dX6_covers_2_44 (lv_at hl 4 rfl) ?_
        obtain ⟨_, ek5, hf⟩ := bdo hf
        obtain ⟨v5, S5, c5, n5, c2_5, n2_5, e5, hf, hC5, hN5⟩ := gbo hf
        refine g_callV (pc := 46) (o := l1) (b := a3) (As := [.int l4]) (rest := [.int l4, .ref l0, .int l3]) (st1 := [va_rf v5, .int l4, .ref l0, .int l3]) hc (mX6_at hk hJ (l0 := a3) (l1 := l4) e5) (cwV 1 hts (lw_V q1590 q1592 qs23 q129 q1593) rfl rfl rfl hdX6_at ⟨Nat.le_of_ble_eq_true rfl, Nat.le_of_ble_eq_true rfl⟩) (g_recv hE hk hH (ci := 8) (q := (RX6, TX6, 3)) rfl (chk_o ek5).choose_spec) ea3 rfl hl.1 rfl rfl (lv_room (Nat.le_of_ble_eq_true rfl)) dX6_covers_2_46 hH hS (by omega) (by omega) (fun H locs hH hS => ?_)
        have hkc : kc + c2 + c5 + c2_5 ≤ mc := by omega
        have hks : ks + n2 + n5 + n2_5 ≤ ms := by omega
        obtain ⟨_, ek6, hf⟩ := bdo hf
        obtain ⟨v6, S6, c6, n6, c2_6, n2_6, e6, hf, hC6, hN6⟩ := gbo hf
        refine g_callV (pc := 49) (o := (some l0)) (b := l0) (As := [.int l4, va_rf v5]) (rest := [.int l3]) (st1 := [.int v6, .int l3]) hc (mX6_takes hk hJ (l0 := l0) (l1 := l4) (l2 := v5) e6) (cwV 2 hts (lw_V q1597 q1599 qs24 q129 q1600) rfl rfl rfl hdX6_takes ⟨Nat.le_of_ble_eq_true rfl, Nat.le_of_ble_eq_true rfl⟩) (g_recv hE hk hH (ci := 8) (q := (RX6, TX6, 3)) rfl (chk_o ek6).choose_spec) rfl rfl hl.1 rfl rfl (lv_room (Nat.le_of_ble_eq_true rfl)) dX6_covers_2_49 hH hS (by omega) (by omega) (fun H locs hH hS => ?_)
        have hkc : kc + c2 + c5 + c6 + c2_6 ≤ mc := by omega
        have hks : ks + n2 + n5 + n6 + n2_6 ≤ ms := by omega
        refine lv_iand (pc := 52) hx hb dX6_covers_2_52 ?_
        refine lv_istore_n (pc := 53) (i := 3) (lv' := [(3, .int (l3 &&& v6)), (0, .ref l0), (1, va_rf l1), (2, .int l2), (4, .int l4)]) hx hb dX6_covers_2_53 rfl hl (by decide) rfl (fun ls hl => ?_)
        refine lv_iinc (pc := 54) (v := l4 + (nI 1)) (lv' := [(4, .int (l4 + (nI 1))), (3, .int (l3 &&& v6)), (0, .ref l0), (1, va_rf l1), (2, .int l2)]) hx hb dX6_covers_2_54 hl (k := 4) rfl rfl (by decide) rfl (fun ls hl => ?_)
        refine lv_goto (pc := 57) (tgt := 25) hx hb dX6_covers_2_57 (by decide) ?_
        exact ih l0 l1 l2 (l3 &&& v6) (l4 + (nI 1)) S6 _ _ ls _ _ _ _ hkc hks hH hS (lv_sub hl [2, 3, 4, 1, 0] rfl) hf
def fX6_covers_2_b21 (G : gG) (l0 : Nat) (l1 : Option Nat) (l2 : Int32) (t0 : Int32) (S : gS) : gO Int32 :=
  fX6_covers_2_b25 G FU l0 l1 l2 t0 (nI 0) S
theorem wX6_covers_2_b21 (hk : rOK Rp) (hJ : JDK l G Rp) (hc : gC p s m args meth c G RX6 "covers" cX6_covers_2 5 (some .boolean)) (l0 : Nat) (l1 : Option Nat) (l2 : Int32) (t0 : Int32) (S : gS) (H : Heap) (locs : List Loc) (ls : Array Slot) (kc ks C N : Nat) (hkc : kc + C ≤ mc) (hks : ks + N ≤ ms) (hH : hp G Rp S H) (hS : va_S G.2.2.2 s.heap H locs) (hl : lv_has ls 5 [(0, .ref l0), (1, va_rf l1), (2, .int l2)]) (hf : fX6_covers_2_b21 G l0 l1 l2 t0 S = some (r, Sf, C, N)) : W p l e (gR 17 583 mc ms) s m args below meth c H locs kc ks (gQ below G Rp (some (.int r)) Sf args s mc ms) (F0 m 21 ls [.int t0]) := by
  obtain ⟨hx, hb, hr, hlk, hml, hown, hts, hE, hA, hnm⟩ := hc
  have hc : gC p s m args meth c G RX6 "covers" cX6_covers_2 5 (some .boolean) := ⟨hx, hb, hr, hlk, hml, hown, hts, hE, hA, hnm⟩
  unfold fX6_covers_2_b21 at hf
  refine lv_istore_n (pc := 21) (i := 3) (lv' := [(3, .int t0), (0, .ref l0), (1, va_rf l1), (2, .int l2)]) hx hb dX6_covers_2_21 rfl hl (by decide) rfl (fun ls hl => ?_)
  refine lv_iconst (pc := 22) (v := nI 0) hx hb dX6_covers_2_22 rfl ?_
  refine lv_istore (pc := 23) (i := 4) (lv' := [(4, .int (nI 0)), (3, .int t0), (0, .ref l0), (1, va_rf l1), (2, .int l2)]) hx hb dX6_covers_2_23 hl (by decide) rfl (fun ls hl => ?_)
  exact wX6_covers_2_b25 hk hJ hc FU l0 l1 l2 t0 (nI 0) S _ _ ls _ _ _ _ hkc hks hH hS (lv_sub hl [2, 3, 4, 1, 0] rfl) hf
def fX6_covers_2_b16 (G : gG) (l0 : Nat) (l1 : Option Nat) (l2 : Int32) (S : gS) : gO Int32 :=
  fX6_covers_2_b21 G l0 l1 l2 (nI 1) S
theorem wX6_covers_2_b16 (hk : rOK Rp) (hJ : JDK l G Rp) (hc : gC p s m args meth c G RX6 "covers" cX6_covers_2 5 (some .boolean)) (l0 : Nat) (l1 : Option Nat) (l2 : Int32) (S : gS) (H : Heap) (locs : List Loc) (ls : Array Slot) (kc ks C N : Nat) (hkc : kc + C ≤ mc) (hks : ks + N ≤ ms) (hH : hp G Rp S H) (hS : va_S G.2.2.2 s.heap H locs) (hl : lv_has ls 5 [(0, .ref l0), (1, va_rf l1), (2, .int l2)]) (hf : fX6_covers_2_b16 G l0 l1 l2 S = some (r, Sf, C, N)) : W p l e (gR 17 583 mc ms) s m args below meth c H locs kc ks (gQ below G Rp (some (.int r)) Sf args s mc ms) (F0 m 16 ls []) := by
  obtain ⟨hx, hb, hr, hlk, hml, hown, hts, hE, hA, hnm⟩ := hc
  have hc : gC p s m args meth c G RX6 "covers" cX6_covers_2 5 (some .boolean) := ⟨hx, hb, hr, hlk, hml, hown, hts, hE, hA, hnm⟩
  unfold fX6_covers_2_b16 at hf
  refine lv_iconst (pc := 16) (v := nI 1) hx hb dX6_covers_2_16 rfl ?_
  refine lv_goto (pc := 17) (tgt := 21) hx hb dX6_covers_2_17 (by decide) ?_
  exact wX6_covers_2_b21 hk hJ hc l0 l1 l2 (nI 1) S _ _ ls _ _ _ _ hkc hks hH hS (lv_sub hl [0, 1, 2] rfl) hf
def fX6_covers_2 (G : gG) (l0 : Nat) (l1 : Option Nat) (l2 : Int32) (S : gS) : gO Int32 :=
  bd l1 fun a2 =>
  bd (chk S a2 8) fun _ =>
  gb (fX6_isOfLength a2 l2 S) fun v1 S1 =>
  if v1 = 0 then
    fX6_covers_2_b16 G l0 l1 l2 S1
  else
    bd (chk S1 l0 8) fun _ =>
    gb (fX6_isOfLength l0 l2 S1) fun v4 S4 =>
    if v4 = 0 then
      fX6_covers_2_b21 G l0 l1 l2 (nI 0) S4
    else
      fX6_covers_2_b16 G l0 l1 l2 S4
theorem wX6_covers_2_b0 (hk : rOK Rp) (hJ : JDK l G Rp) (hc : gC p s m args meth c G RX6 "covers" cX6_covers_2 5 (some .boolean)) (l0 : Nat) (l1 : Option Nat) (l2 : Int32) (S : gS) (H : Heap) (locs : List Loc) (ls : Array Slot) (kc ks C N : Nat) (hkc : kc + C ≤ mc) (hks : ks + N ≤ ms) (hH : hp G Rp S H) (hS : va_S G.2.2.2 s.heap H locs) (hl : lv_has ls 5 [(0, .ref l0), (1, va_rf l1), (2, .int l2)]) (hf : fX6_covers_2 G l0 l1 l2 S = some (r, Sf, C, N)) : W p l e (gR 17 583 mc ms) s m args below meth c H locs kc ks (gQ below G Rp (some (.int r)) Sf args s mc ms) (F0 m 0 ls []) := by
  obtain ⟨hx, hb, hr, hlk, hml, hown, hts, hE, hA, hnm⟩ := hc
  have hc : gC p s m args meth c G RX6 "covers" cX6_covers_2 5 (some .boolean) := ⟨hx, hb, hr, hlk, hml, hown, hts, hE, hA, hnm⟩
  unfold fX6_covers_2 at hf
  refine g_aload_n (pc := 0) (o := l1) hx hb dX6_covers_2_0 rfl (lv_at hl 1 rfl) ?_
  refine lv_iload_n (pc := 1) hx hb dX6_covers_2_1 rfl (lv_at hl 2 rfl) ?_
  obtain ⟨a2, ea2, hf⟩ := bdo hf
  obtain ⟨_, ek1, hf⟩ := bdo hf
  obtain ⟨v1, S1, c1, n1, c2_1, n2_1, e1, hf, hC1, hN1⟩ := gbo hf
  refine g_callV (pc := 2) (o := l1) (b := a2) (As := [.int l2]) (rest := []) (st1 := [.int v1]) hc (mX6_isOfLength hk hJ (l0 := a2) (l1 := l2) e1) (cwV 1 hts (lw_V q1586 q1588 qs22 q129 q1589) rfl rfl rfl hdX6_isOfLength ⟨Nat.le_of_ble_eq_true rfl, Nat.le_of_ble_eq_true rfl⟩) (g_recv hE hk hH (ci := 8) (q := (RX6, TX6, 3)) rfl (chk_o ek1).choose_spec) ea2 rfl hl.1 rfl rfl (lv_room (Nat.le_of_ble_eq_true rfl)) dX6_covers_2_2 hH hS (by omega) (by omega) (fun H locs hH hS => ?_)
  have hkc : kc + c1 + c2_1 ≤ mc := by omega
  have hks : ks + n1 + n2_1 ≤ ms := by omega
  refine lv_if_eq (pc := 5) (tgt := 16) hx hb dX6_covers_2_5 (by decide) (fun c3 => ?_) (fun c3 => ?_)
  · rw [if_pos c3] at hf
    exact wX6_covers_2_b16 hk hJ hc l0 l1 l2 S1 _ _ ls _ _ _ _ hkc hks hH hS (lv_sub hl [0, 1, 2] rfl) hf
  · rw [if_neg c3] at hf
    refine lv_aload_n (pc := 8) hx hb dX6_covers_2_8 rfl (lv_at hl 0 rfl) ?_
    refine lv_iload_n (pc := 9) hx hb dX6_covers_2_9 rfl (lv_at hl 2 rfl) ?_
    obtain ⟨_, ek4, hf⟩ := bdo hf
    obtain ⟨v4, S4, c4, n4, c2_4, n2_4, e4, hf, hC4, hN4⟩ := gbo hf
    refine g_callV (pc := 10) (o := (some l0)) (b := l0) (As := [.int l2]) (rest := []) (st1 := [.int v4]) hc (mX6_isOfLength hk hJ (l0 := l0) (l1 := l2) e4) (cwV 1 hts (lw_V q1586 q1588 qs22 q129 q1589) rfl rfl rfl hdX6_isOfLength ⟨Nat.le_of_ble_eq_true rfl, Nat.le_of_ble_eq_true rfl⟩) (g_recv hE hk hH (ci := 8) (q := (RX6, TX6, 3)) rfl (chk_o ek4).choose_spec) rfl rfl hl.1 rfl rfl (lv_room (Nat.le_of_ble_eq_true rfl)) dX6_covers_2_10 hH hS (by omega) (by omega) (fun H locs hH hS => ?_)
    have hkc : kc + c1 + c4 + c2_4 ≤ mc := by omega
    have hks : ks + n1 + n4 + n2_4 ≤ ms := by omega
    refine lv_if_eq (pc := 13) (tgt := 20) hx hb dX6_covers_2_13 (by decide) (fun c5 => ?_) (fun c5 => ?_)
    · rw [if_pos c5] at hf
      refine lv_iconst (pc := 20) (v := nI 0) hx hb dX6_covers_2_20 rfl ?_
      exact wX6_covers_2_b21 hk hJ hc l0 l1 l2 (nI 0) S4 _ _ ls _ _ _ _ hkc hks hH hS (lv_sub hl [0, 1, 2] rfl) hf
    · rw [if_neg c5] at hf
      exact wX6_covers_2_b16 hk hJ hc l0 l1 l2 S4 _ _ ls _ _ _ _ hkc hks hH hS (lv_sub hl [0, 1, 2] rfl) hf
theorem mX6_covers_2 {l : Launch} {G : gG} {Rp : gM → gM → Nat → Prop} (hk : rOK Rp) (hJ : JDK l G Rp) {S S2 : gS} {r2 : Int32} {C N : Nat} {l0 : Nat} {l1 : Option Nat} {l2 : Int32} (hf : fX6_covers_2 G l0 l1 l2 S = some (r2, S2, C, N)) : gMet l yX6_covers_2 cX6_covers_2 5 (some .boolean) 17 583 G Rp [.ref l0, va_rf l1, .int l2] S (some (.int r2)) S2 C N := by
  refine g_start (by decide) (by simp [lg_sl, va_rf_cat, cat_i, cat_j, cat_r]) (fun p e s m args below meth c ls hc hl hH => ?_)
  have hl : lv_has ls 5 [(0, .ref l0), (1, va_rf l1), (2, .int l2)] := by simpa [lv_args, va_rf_cat, cat_i, cat_j, cat_r] using hl
  exact wX6_covers_2_b0 hk hJ hc l0 l1 l2 S _ _ ls 0 0 C N (by omega) (by omega) hH va_S.rf (lv_sub hl [0, 1, 2] rfl) hf
end
section
variable {r : Int32} {Sf : gS}
def fX6_covers (G : gG) (l0 : Nat) (l1 : Option Nat) (S : gS) : gO Int32 :=
  bd (chk S l0 8) fun _ =>
  gb (fX6_covers_2 G l0 l1 (nI 1) S) fun v1 S1 =>
  if v1 = 0 then
    zg (nI 0) S1
  else
    bd (chk S1 l0 8) fun _ =>
    gb (fX6_covers_2 G l0 l1 (nI 2) S1) fun v3 S3 =>
    if v3 = 0 then
      zg (nI 0) S3
    else
      bd (chk S3 l0 8) fun _ =>
      gb (fX6_covers_2 G l0 l1 (nI 3) S3) fun v5 S5 =>
      if v5 = 0 then
        zg (nI 0) S5
      else
        bd (chk S5 l0 8) fun _ =>
        gb (fX6_covers_2 G l0 l1 (nI 4) S5) fun v7 S7 =>
        if v7 = 0 then
          zg (nI 0) S7
        else
          zg (nI 1) S7
theorem wX6_covers_b0 (hk : rOK Rp) (hJ : JDK l G Rp) (hc : gC p s m args meth c G RX6 "covers" cX6_covers 2 (some .boolean)) (l0 : Nat) (l1 : Option Nat) (S : gS) (H : Heap) (locs : List Loc) (ls : Array Slot) (kc ks C N : Nat) (hkc : kc + C ≤ mc) (hks : ks + N ≤ ms) (hH : hp G Rp S H) (hS : va_S G.2.2.2 s.heap H locs) (hl : lv_has ls 2 [(0, .ref l0), (1, va_rf l1)]) (hf : fX6_covers G l0 l1 S = some (r, Sf, C, N)) : W p l e (gR 18 607 mc ms) s m args below meth c H locs kc ks (gQ below G Rp (some (.int r)) Sf args s mc ms) (F0 m 0 ls []) := by
  obtain ⟨hx, hb, hr, hlk, hml, hown, hts, hE, hA, hnm⟩ := hc
  have hc : gC p s m args meth c G RX6 "covers" cX6_covers 2 (some .boolean) := ⟨hx, hb, hr, hlk, hml, hown, hts, hE, hA, hnm⟩
  unfold fX6_covers at hf
  refine lv_aload_n (pc := 0) hx hb dX6_covers_0 rfl (lv_at hl 0 rfl) ?_
  refine g_aload_n (pc := 1) (o := l1) hx hb dX6_covers_1 rfl (lv_at hl 1 rfl) ?_
  refine lv_iconst (pc := 2) (v := nI 1) hx hb dX6_covers_2 rfl ?_
  obtain ⟨_, ek1, hf⟩ := bdo hf
  obtain ⟨v1, S1, c1, n1, c2_1, n2_1, e1, hf, hC1, hN1⟩ := gbo hf
  refine g_callV (pc := 3) (o := (some l0)) (b := l0) (As := [va_rf l1, .int (nI 1)]) (rest := []) (st1 := [.int v1]) hc (mX6_covers_2 hk hJ (l0 := l0) (l1 := l1) (l2 := (nI 1)) e1) (cwV 2 hts (lw_V q1582 q1584 qs21 q129 q1585) rfl rfl rfl hdX6_covers_2 ⟨Nat.le_of_ble_eq_true rfl, Nat.le_of_ble_eq_true rfl⟩) (g_recv hE hk hH (ci := 8) (q := (RX6, TX6, 3)) rfl (chk_o ek1).choose_spec) rfl rfl hl.1 rfl rfl (lv_room (Nat.le_of_ble_eq_true rfl)) dX6_covers_3 hH hS (by omega) (by omega) (fun H locs hH hS => ?_)
  have hkc : kc + c1 + c2_1 ≤ mc := by omega
  have hks : ks + n1 + n2_1 ≤ ms := by omega
  refine lv_if_eq (pc := 6) (tgt := 40) hx hb dX6_covers_6 (by decide) (fun c2 => ?_) (fun c2 => ?_)
  · rw [if_pos c2] at hf
    refine lv_iconst (pc := 40) (v := nI 0) hx hb dX6_covers_40 rfl ?_
    exact g_zret (pc := 41) hx hb hr hlk hH hS hkc hks hf dX6_covers_41
  · rw [if_neg c2] at hf
    refine lv_aload_n (pc := 9) hx hb dX6_covers_9 rfl (lv_at hl 0 rfl) ?_
    refine g_aload_n (pc := 10) (o := l1) hx hb dX6_covers_10 rfl (lv_at hl 1 rfl) ?_
    refine lv_iconst (pc := 11) (v := nI 2) hx hb dX6_covers_11 rfl ?_
    obtain ⟨_, ek3, hf⟩ := bdo hf
    obtain ⟨v3, S3, c3, n3, c2_3, n2_3, e3, hf, hC3, hN3⟩ := gbo hf
    refine g_callV (pc := 12) (o := (some l0)) (b := l0) (As := [va_rf l1, .int (nI 2)]) (rest := []) (st1 := [.int v3]) hc (mX6_covers_2 hk hJ (l0 := l0) (l1 := l1) (l2 := (nI 2)) e3) (cwV 2 hts (lw_V q1582 q1584 qs21 q129 q1585) rfl rfl rfl hdX6_covers_2 ⟨Nat.le_of_ble_eq_true rfl, Nat.le_of_ble_eq_true rfl⟩) (g_recv hE hk hH (ci := 8) (q := (RX6, TX6, 3)) rfl (chk_o ek3).choose_spec) rfl rfl hl.1 rfl rfl (lv_room (Nat.le_of_ble_eq_true rfl)) dX6_covers_12 hH hS (by omega) (by omega) (fun H locs hH hS => ?_)
    have hkc : kc + c1 + c3 + c2_3 ≤ mc := by omega
    have hks : ks + n1 + n3 + n2_3 ≤ ms := by omega
    refine lv_if_eq (pc := 15) (tgt := 40) hx hb dX6_covers_15 (by decide) (fun c4 => ?_) (fun c4 => ?_)
    · rw [if_pos c4] at hf
      refine lv_iconst (pc := 40) (v := nI 0) hx hb dX6_covers_40 rfl ?_
      exact g_zret (pc := 41) hx hb hr hlk hH hS hkc hks hf dX6_covers_41
    · rw [if_neg c4] at hf
      refine lv_aload_n (pc := 18) hx hb dX6_covers_18 rfl (lv_at hl 0 rfl) ?_
      refine g_aload_n (pc := 19) (o := l1) hx hb dX6_covers_19 rfl (lv_at hl 1 rfl) ?_
      refine lv_iconst (pc := 20) (v := nI 3) hx hb dX6_covers_20 rfl ?_
      obtain ⟨_, ek5, hf⟩ := bdo hf
      obtain ⟨v5, S5, c5, n5, c2_5, n2_5, e5, hf, hC5, hN5⟩ := gbo hf
      refine g_callV (pc := 21) (o := (some l0)) (b := l0) (As := [va_rf l1, .int (nI 3)]) (rest := []) (st1 := [.int v5]) hc (mX6_covers_2 hk hJ (l0 := l0) (l1 := l1) (l2 := (nI 3)) e5) (cwV 2 hts (lw_V q1582 q1584 qs21 q129 q1585) rfl rfl rfl hdX6_covers_2 ⟨Nat.le_of_ble_eq_true rfl, Nat.le_of_ble_eq_true rfl⟩) (g_recv hE hk hH (ci := 8) (q := (RX6, TX6, 3)) rfl (chk_o ek5).choose_spec) rfl rfl hl.1 rfl rfl (lv_room (Nat.le_of_ble_eq_true rfl)) dX6_covers_21 hH hS (by omega) (by omega) (fun H locs hH hS => ?_)
      have hkc : kc + c1 + c3 + c5 + c2_5 ≤ mc := by omega
      have hks : ks + n1 + n3 + n5 + n2_5 ≤ ms := by omega
      refine lv_if_eq (pc := 24) (tgt := 40) hx hb dX6_covers_24 (by decide) (fun c6 => ?_) (fun c6 => ?_)
      · rw [if_pos c6] at hf
        refine lv_iconst (pc := 40) (v := nI 0) hx hb dX6_covers_40 rfl ?_
        exact g_zret (pc := 41) hx hb hr hlk hH hS hkc hks hf dX6_covers_41
      · rw [if_neg c6] at hf
        refine lv_aload_n (pc := 27) hx hb dX6_covers_27 rfl (lv_at hl 0 rfl) ?_
        refine g_aload_n (pc := 28) (o := l1) hx hb dX6_covers_28 rfl (lv_at hl 1 rfl) ?_
        refine lv_iconst (pc := 29) (v := nI 4) hx hb dX6_covers_29 rfl ?_
        obtain ⟨_, ek7, hf⟩ := bdo hf
        obtain ⟨v7, S7, c7, n7, c2_7, n2_7, e7, hf, hC7, hN7⟩ := gbo hf
        refine g_callV (pc := 30) (o := (some l0)) (b := l0) (As := [va_rf l1, .int (nI 4)]) (rest := []) (st1 := [.int v7]) hc (mX6_covers_2 hk hJ (l0 := l0) (l1 := l1) (l2 := (nI 4)) e7) (cwV 2 hts (lw_V q1582 q1584 qs21 q129 q1585) rfl rfl rfl hdX6_covers_2 ⟨Nat.le_of_ble_eq_true rfl, Nat.le_of_ble_eq_true rfl⟩) (g_recv hE hk hH (ci := 8) (q := (RX6, TX6, 3)) rfl (chk_o ek7).choose_spec) rfl rfl hl.1 rfl rfl (lv_room (Nat.le_of_ble_eq_true rfl)) dX6_covers_30 hH hS (by omega) (by omega) (fun H locs hH hS => ?_)
        have hkc : kc + c1 + c3 + c5 + c7 + c2_7 ≤ mc := by omega
        have hks : ks + n1 + n3 + n5 + n7 + n2_7 ≤ ms := by omega
        refine lv_if_eq (pc := 33) (tgt := 40) hx hb dX6_covers_33 (by decide) (fun c8 => ?_) (fun c8 => ?_)
        · rw [if_pos c8] at hf
          refine lv_iconst (pc := 40) (v := nI 0) hx hb dX6_covers_40 rfl ?_
          exact g_zret (pc := 41) hx hb hr hlk hH hS hkc hks hf dX6_covers_41
        · rw [if_neg c8] at hf
          refine lv_iconst (pc := 36) (v := nI 1) hx hb dX6_covers_36 rfl ?_
          refine lv_goto (pc := 37) (tgt := 41) hx hb dX6_covers_37 (by decide) ?_
          exact g_zret (pc := 41) hx hb hr hlk hH hS hkc hks hf dX6_covers_41
theorem mX6_covers {l : Launch} {G : gG} {Rp : gM → gM → Nat → Prop} (hk : rOK Rp) (hJ : JDK l G Rp) {S S2 : gS} {r2 : Int32} {C N : Nat} {l0 : Nat} {l1 : Option Nat} (hf : fX6_covers G l0 l1 S = some (r2, S2, C, N)) : gMet l yX6_covers cX6_covers 2 (some .boolean) 18 607 G Rp [.ref l0, va_rf l1] S (some (.int r2)) S2 C N := by
  refine g_start (by decide) (by simp [lg_sl, va_rf_cat, cat_i, cat_j, cat_r]) (fun p e s m args below meth c ls hc hl hH => ?_)
  have hl : lv_has ls 2 [(0, .ref l0), (1, va_rf l1)] := by simpa [lv_args, va_rf_cat, cat_i, cat_j, cat_r] using hl
  exact wX6_covers_b0 hk hJ hc l0 l1 S _ _ ls 0 0 C N (by omega) (by omega) hH va_S.rf (lv_sub hl [0, 1] rfl) hf
end
section
variable {r : Int32} {Sf : gS}
def fX0_covers_b46 (G : gG) (l0 : Nat) (S : gS) : gO Int32 :=
  bd (chk S l0 0) fun _ =>
  gb (fX0_no l0 (-82) S) fun v1 S1 =>
  some (v1, S1, 0, 0)
theorem wX0_covers_b46 (hk : rOK Rp) (hJ : JDK l G Rp) (hc : gC p s m args meth c G RX0 "covers" cX0_covers 3 (some .int)) (l0 : Nat) (S : gS) (H : Heap) (locs : List Loc) (ls : Array Slot) (kc ks C N : Nat) (hkc : kc + C ≤ mc) (hks : ks + N ≤ ms) (hH : hp G Rp S H) (hS : va_S G.2.2.2 s.heap H locs) (hl : lv_has ls 3 [(0, .ref l0)]) (hf : fX0_covers_b46 G l0 S = some (r, Sf, C, N)) : W p l e (gR 19 628 mc ms) s m args below meth c H locs kc ks (gQ below G Rp (some (.int r)) Sf args s mc ms) (F0 m 46 ls []) := by
  obtain ⟨hx, hb, hr, hlk, hml, hown, hts, hE, hA, hnm⟩ := hc
  have hc : gC p s m args meth c G RX0 "covers" cX0_covers 3 (some .int) := ⟨hx, hb, hr, hlk, hml, hown, hts, hE, hA, hnm⟩
  unfold fX0_covers_b46 at hf
  refine lv_aload_n (pc := 46) hx hb dX0_covers_46 rfl (lv_at hl 0 rfl) ?_
  refine lv_bipush (pc := 47) (v := -82) hx hb dX0_covers_47 gkbm82 ?_
  obtain ⟨_, ek1, hf⟩ := bdo hf
  obtain ⟨v1, S1, c1, n1, c2_1, n2_1, e1, hf, hC1, hN1⟩ := gbo hf
  refine g_callV (pc := 49) (o := (some l0)) (b := l0) (As := [.int (-82)]) (rest := []) (st1 := [.int v1]) hc (mX0_no hk hJ (l0 := l0) (l1 := (-82)) e1) (cwV 1 hts (lw_V q398 q400 qs2 q97 q401) rfl rfl rfl hdX0_no ⟨Nat.le_of_ble_eq_true rfl, Nat.le_of_ble_eq_true rfl⟩) (g_recv hE hk hH (ci := 0) (q := (RX0, TX0, 7)) rfl (chk_o ek1).choose_spec) rfl rfl hl.1 rfl rfl (lv_room (Nat.le_of_ble_eq_true rfl)) dX0_covers_49 hH hS (by omega) (by omega) (fun H locs hH hS => ?_)
  have hkc : kc + c1 + c2_1 ≤ mc := by omega
  have hks : ks + n1 + n2_1 ≤ ms := by omega
  exact g_iret (pc := 52) hx hb hr hlk hH hS hkc hks hf dX0_covers_52
def fX0_covers (G : gG) (l0 : Nat) (l1 : Int32) (l2 : Int32) (S : gS) : gO Int32 :=
  bd (chk S l0 0) fun _ =>
  gb (fX0_isQueue l0 l1 S) fun v1 S1 =>
  if v1 = 0 then
    fX0_covers_b46 G l0 S1
  else
    bd (chk S1 l0 0) fun _ =>
    gb (fX0_isQueue l0 l2 S1) fun v3 S3 =>
    if v3 = 0 then
      fX0_covers_b46 G l0 S3
    else
      bd (chk S3 l0 0) fun _ =>
      gb (fX0_queue_2 l0 l1 S3) fun v5 S5 =>
      bd v5 fun a6 =>
      bd (rdR S5 a6 3 1) fun v7 =>
      bd (chk S5 l0 0) fun _ =>
      gb (fX0_queue_2 l0 l2 S5) fun v8 S8 =>
      bd v8 fun a9 =>
      bd (rdR S8 a9 3 1) fun v10 =>
      bd v7 fun a12 =>
      bd (chk S8 a12 8) fun _ =>
      gb (fX6_covers G a12 v10 S8) fun v11 S11 =>
      if v11 = 0 then
        some (nI 0, S11, 0, 0)
      else
        some (nI 1, S11, 0, 0)
theorem wX0_covers_b0 (hk : rOK Rp) (hJ : JDK l G Rp) (hc : gC p s m args meth c G RX0 "covers" cX0_covers 3 (some .int)) (l0 : Nat) (l1 : Int32) (l2 : Int32) (S : gS) (H : Heap) (locs : List Loc) (ls : Array Slot) (kc ks C N : Nat) (hkc : kc + C ≤ mc) (hks : ks + N ≤ ms) (hH : hp G Rp S H) (hS : va_S G.2.2.2 s.heap H locs) (hl : lv_has ls 3 [(0, .ref l0), (1, .int l1), (2, .int l2)]) (hf : fX0_covers G l0 l1 l2 S = some (r, Sf, C, N)) : W p l e (gR 19 628 mc ms) s m args below meth c H locs kc ks (gQ below G Rp (some (.int r)) Sf args s mc ms) (F0 m 0 ls []) := by
  obtain ⟨hx, hb, hr, hlk, hml, hown, hts, hE, hA, hnm⟩ := hc
  have hc : gC p s m args meth c G RX0 "covers" cX0_covers 3 (some .int) := ⟨hx, hb, hr, hlk, hml, hown, hts, hE, hA, hnm⟩
  unfold fX0_covers at hf
  refine lv_aload_n (pc := 0) hx hb dX0_covers_0 rfl (lv_at hl 0 rfl) ?_
  refine lv_iload_n (pc := 1) hx hb dX0_covers_1 rfl (lv_at hl 1 rfl) ?_
  obtain ⟨_, ek1, hf⟩ := bdo hf
  obtain ⟨v1, S1, c1, n1, c2_1, n2_1, e1, hf, hC1, hN1⟩ := gbo hf
  refine g_callV (pc := 2) (o := (some l0)) (b := l0) (As := [.int l1]) (rest := []) (st1 := [.int v1]) hc (mX0_isQueue hk hJ (l0 := l0) (l1 := l1) e1) (cwV 1 hts (lw_V q1214 q1216 qs17 q97 q1217) rfl rfl rfl hdX0_isQueue ⟨Nat.le_of_ble_eq_true rfl, Nat.le_of_ble_eq_true rfl⟩) (g_recv hE hk hH (ci := 0) (q := (RX0, TX0, 7)) rfl (chk_o ek1).choose_spec) rfl rfl hl.1 rfl rfl (lv_room (Nat.le_of_ble_eq_true rfl)) dX0_covers_2 hH hS (by omega) (by omega) (fun H locs hH hS => ?_)
  have hkc : kc + c1 + c2_1 ≤ mc := by omega
  have hks : ks + n1 + n2_1 ≤ ms := by omega
  refine lv_if_eq (pc := 5) (tgt := 46) hx hb dX0_covers_5 (by decide) (fun c2 => ?_) (fun c2 => ?_)
  · rw [if_pos c2] at hf
    exact wX0_covers_b46 hk hJ hc l0 S1 _ _ ls _ _ _ _ hkc hks hH hS (lv_sub hl [0] rfl) hf
  · rw [if_neg c2] at hf
    refine lv_aload_n (pc := 8) hx hb dX0_covers_8 rfl (lv_at hl 0 rfl) ?_
    refine lv_iload_n (pc := 9) hx hb dX0_covers_9 rfl (lv_at hl 2 rfl) ?_
    obtain ⟨_, ek3, hf⟩ := bdo hf
    obtain ⟨v3, S3, c3, n3, c2_3, n2_3, e3, hf, hC3, hN3⟩ := gbo hf
    refine g_callV (pc := 10) (o := (some l0)) (b := l0) (As := [.int l2]) (rest := []) (st1 := [.int v3]) hc (mX0_isQueue hk hJ (l0 := l0) (l1 := l2) e3) (cwV 1 hts (lw_V q1214 q1216 qs17 q97 q1217) rfl rfl rfl hdX0_isQueue ⟨Nat.le_of_ble_eq_true rfl, Nat.le_of_ble_eq_true rfl⟩) (g_recv hE hk hH (ci := 0) (q := (RX0, TX0, 7)) rfl (chk_o ek3).choose_spec) rfl rfl hl.1 rfl rfl (lv_room (Nat.le_of_ble_eq_true rfl)) dX0_covers_10 hH hS (by omega) (by omega) (fun H locs hH hS => ?_)
    have hkc : kc + c1 + c3 + c2_3 ≤ mc := by omega
    have hks : ks + n1 + n3 + n2_3 ≤ ms := by omega
    refine lv_if_eq (pc := 13) (tgt := 46) hx hb dX0_covers_13 (by decide) (fun c4 => ?_) (fun c4 => ?_)
    · rw [if_pos c4] at hf
      exact wX0_covers_b46 hk hJ hc l0 S3 _ _ ls _ _ _ _ hkc hks hH hS (lv_sub hl [0] rfl) hf
    · rw [if_neg c4] at hf
      refine lv_aload_n (pc := 16) hx hb dX0_covers_16 rfl (lv_at hl 0 rfl) ?_
      refine lv_iload_n (pc := 17) hx hb dX0_covers_17 rfl (lv_at hl 1 rfl) ?_
      obtain ⟨_, ek5, hf⟩ := bdo hf
      obtain ⟨v5, S5, c5, n5, c2_5, n2_5, e5, hf, hC5, hN5⟩ := gbo hf
      refine g_callV (pc := 18) (o := (some l0)) (b := l0) (As := [.int l1]) (rest := []) (st1 := [va_rf v5]) hc (mX0_queue_2 hk hJ (l0 := l0) (l1 := l1) e5) (cwV 1 hts (lw_V q1218 q1220 qs18 q97 q1221) rfl rfl rfl hdX0_queue_2 ⟨Nat.le_of_ble_eq_true rfl, Nat.le_of_ble_eq_true rfl⟩) (g_recv hE hk hH (ci := 0) (q := (RX0, TX0, 7)) rfl (chk_o ek5).choose_spec) rfl rfl hl.1 rfl rfl (lv_room (Nat.le_of_ble_eq_true rfl)) dX0_covers_18 hH hS (by omega) (by omega) (fun H locs hH hS => ?_)
      have hkc : kc + c1 + c3 + c5 + c2_5 ≤ mc := by omega
      have hks : ks + n1 + n3 + n5 + n2_5 ≤ ms := by omega
      obtain ⟨a6, ea6, hf⟩ := bdo hf
      obtain ⟨v7, e7, hf⟩ := bdo hf
      refine g_get (pc := 21) (o := v5) (a := a6) (ci := 3) (k := 1) (v := va_rf v7) (C := RX8) (T := TX8) (N := 13) hx hb hts hown hE hk hH in_X8 rfl (by decide) (hts _ q1155) (fun _ h9 => h9) ea6 (rdR_o e7) dX0_covers_21 ?_
      refine lv_aload_n (pc := 24) hx hb dX0_covers_24 rfl (lv_at hl 0 rfl) ?_
      refine lv_iload_n (pc := 25) hx hb dX0_covers_25 rfl (lv_at hl 2 rfl) ?_
      obtain ⟨_, ek8, hf⟩ := bdo hf
      obtain ⟨v8, S8, c8, n8, c2_8, n2_8, e8, hf, hC8, hN8⟩ := gbo hf
      refine g_callV (pc := 26) (o := (some l0)) (b := l0) (As := [.int l2]) (rest := [va_rf v7]) (st1 := [va_rf v8, va_rf v7]) hc (mX0_queue_2 hk hJ (l0 := l0) (l1 := l2) e8) (cwV 1 hts (lw_V q1218 q1220 qs18 q97 q1221) rfl rfl rfl hdX0_queue_2 ⟨Nat.le_of_ble_eq_true rfl, Nat.le_of_ble_eq_true rfl⟩) (g_recv hE hk hH (ci := 0) (q := (RX0, TX0, 7)) rfl (chk_o ek8).choose_spec) rfl rfl hl.1 rfl rfl (lv_room (by simp [va_rf_cat, cat_i, cat_j, cat_r])) dX0_covers_26 hH hS (by omega) (by omega) (fun H locs hH hS => ?_)
      have hkc : kc + c1 + c3 + c5 + c8 + c2_8 ≤ mc := by omega
      have hks : ks + n1 + n3 + n5 + n8 + n2_8 ≤ ms := by omega
      obtain ⟨a9, ea9, hf⟩ := bdo hf
      obtain ⟨v10, e10, hf⟩ := bdo hf
      refine g_get (pc := 29) (o := v8) (a := a9) (ci := 3) (k := 1) (v := va_rf v10) (C := RX8) (T := TX8) (N := 13) hx hb hts hown hE hk hH in_X8 rfl (by decide) (hts _ q1155) (fun _ h9 => h9) ea9 (rdR_o e10) dX0_covers_29 ?_
      obtain ⟨a12, ea12, hf⟩ := bdo hf
      obtain ⟨_, ek11, hf⟩ := bdo hf
      obtain ⟨v11, S11, c11, n11, c2_11, n2_11, e11, hf, hC11, hN11⟩ := gbo hf
      refine g_callV (pc := 32) (o := v7) (b := a12) (As := [va_rf v10]) (rest := []) (st1 := [.int v11]) hc (mX6_covers hk hJ (l0 := a12) (l1 := v10) e11) (cwV 1 hts (lw_V q2529 q1579 q1580 q129 q1581) rfl rfl rfl hdX6_covers ⟨Nat.le_of_ble_eq_true rfl, Nat.le_of_ble_eq_true rfl⟩) (g_recv hE hk hH (ci := 8) (q := (RX6, TX6, 3)) rfl (chk_o ek11).choose_spec) ea12 rfl hl.1 rfl rfl (lv_room (Nat.le_of_ble_eq_true rfl)) dX0_covers_32 hH hS (by omega) (by omega) (fun H locs hH hS => ?_)
      have hkc : kc + c1 + c3 + c5 + c8 + c11 + c2_11 ≤ mc := by omega
      have hks : ks + n1 + n3 + n5 + n8 + n11 + n2_11 ≤ ms := by omega
      refine lv_if_eq (pc := 35) (tgt := 42) hx hb dX0_covers_35 (by decide) (fun c13 => ?_) (fun c13 => ?_)
      · rw [if_pos c13] at hf
        refine lv_iconst (pc := 42) (v := nI 0) hx hb dX0_covers_42 rfl ?_
        refine lv_goto (pc := 43) (tgt := 52) hx hb dX0_covers_43 (by decide) ?_
        exact g_iret (pc := 52) hx hb hr hlk hH hS hkc hks hf dX0_covers_52
      · rw [if_neg c13] at hf
        refine lv_iconst (pc := 38) (v := nI 1) hx hb dX0_covers_38 rfl ?_
        refine lv_goto (pc := 39) (tgt := 52) hx hb dX0_covers_39 (by decide) ?_
        exact g_iret (pc := 52) hx hb hr hlk hH hS hkc hks hf dX0_covers_52
theorem mX0_covers {l : Launch} {G : gG} {Rp : gM → gM → Nat → Prop} (hk : rOK Rp) (hJ : JDK l G Rp) {S S2 : gS} {r2 : Int32} {C N : Nat} {l0 : Nat} {l1 : Int32} {l2 : Int32} (hf : fX0_covers G l0 l1 l2 S = some (r2, S2, C, N)) : gMet l yX0_covers cX0_covers 3 (some .int) 19 628 G Rp [.ref l0, .int l1, .int l2] S (some (.int r2)) S2 C N := by
  refine g_start (by decide) (Nat.le_of_ble_eq_true rfl) (fun p e s m args below meth c ls hc hl hH => ?_)
  have hl : lv_has ls 3 [(0, .ref l0), (1, .int l1), (2, .int l2)] := hl
  exact wX0_covers_b0 hk hJ hc l0 l1 l2 S _ _ ls 0 0 C N (by omega) (by omega) hH va_S.rf (lv_sub hl [0, 1, 2] rfl) hf
end
section
variable {r : Int32} {Sf : gS}
def fX0_credit_b18 (l0 : Nat) (S : gS) : gO Int32 :=
  bd (chk S l0 0) fun _ =>
  gb (fX0_no l0 (-82) S) fun v1 S1 =>
  some (v1, S1, 0, 0)
theorem wX0_credit_b18 (hk : rOK Rp) (hJ : JDK l G Rp) (hc : gC p s m args meth c G RX0 "credit" cX0_credit 4 (some .int)) (l0 : Nat) (S : gS) (H : Heap) (locs : List Loc) (ls : Array Slot) (kc ks C N : Nat) (hkc : kc + C ≤ mc) (hks : ks + N ≤ ms) (hH : hp G Rp S H) (hS : va_S G.2.2.2 s.heap H locs) (hl : lv_has ls 4 [(0, .ref l0)]) (hf : fX0_credit_b18 l0 S = some (r, Sf, C, N)) : W p l e (gR 17 582 mc ms) s m args below meth c H locs kc ks (gQ below G Rp (some (.int r)) Sf args s mc ms) (F0 m 18 ls []) := by
  obtain ⟨hx, hb, hr, hlk, hml, hown, hts, hE, hA, hnm⟩ := hc
  have hc : gC p s m args meth c G RX0 "credit" cX0_credit 4 (some .int) := ⟨hx, hb, hr, hlk, hml, hown, hts, hE, hA, hnm⟩
  unfold fX0_credit_b18 at hf
  refine lv_aload_n (pc := 18) hx hb dX0_credit_18 rfl (lv_at hl 0 rfl) ?_
  refine lv_bipush (pc := 19) (v := -82) hx hb dX0_credit_19 gkbm82 ?_
  obtain ⟨_, ek1, hf⟩ := bdo hf
  obtain ⟨v1, S1, c1, n1, c2_1, n2_1, e1, hf, hC1, hN1⟩ := gbo hf
  refine g_callV (pc := 21) (o := (some l0)) (b := l0) (As := [.int (-82)]) (rest := []) (st1 := [.int v1]) hc (mX0_no hk hJ (l0 := l0) (l1 := (-82)) e1) (cwV 1 hts (lw_V q398 q400 qs2 q97 q401) rfl rfl rfl hdX0_no ⟨Nat.le_of_ble_eq_true rfl, Nat.le_of_ble_eq_true rfl⟩) (g_recv hE hk hH (ci := 0) (q := (RX0, TX0, 7)) rfl (chk_o ek1).choose_spec) rfl rfl hl.1 rfl rfl (lv_room (Nat.le_of_ble_eq_true rfl)) dX0_credit_21 hH hS (by omega) (by omega) (fun H locs hH hS => ?_)
  have hkc : kc + c1 + c2_1 ≤ mc := by omega
  have hks : ks + n1 + n2_1 ≤ ms := by omega
  exact g_iret (pc := 24) hx hb hr hlk hH hS hkc hks hf dX0_credit_24
def fX0_credit (l0 : Nat) (l1 : Int32) (l2 : Int32) (S : gS) : gO Int32 :=
  bd (chk S l0 0) fun _ =>
  gb (fX0_isHere l0 l1 S) fun v1 S1 =>
  if v1 = 0 then
    fX0_credit_b18 l0 S1
  else
    gb (fX0_isIn l2 (nI 1) (nI 9) S1) fun v3 S3 =>
    if v3 = 0 then
      fX0_credit_b18 l0 S3
    else
      bd (rdR S3 l0 0 0) fun v5 =>
      bd v5 fun a6 =>
      bd (rdR S3 a6 1 1) fun v7 =>
      bd v7 fun a9 =>
      gb (nAL_get a9 l1 S3) fun v8 S8 =>
      bd (ckc S8 v8 6) fun _ =>
      bd v8 fun a11 =>
      bd (rdI S8 a11 6 2) fun v12 =>
      if (v12 + l2) ≤ (nI 9) then
        bd (rdI S8 a11 6 2) fun v14 =>
        bd (wr S8 a11 6 2 (.int (v14 + l2))) fun S15 =>
        bd (rdI S15 a11 6 2) fun v16 =>
        some (v16, S15, 0, 0)
      else
        bd (chk S8 l0 0) fun _ =>
        gb (fX0_no l0 (-86) S8) fun v17 S17 =>
        some (v17, S17, 0, 0)
theorem wX0_credit_b0 (hk : rOK Rp) (hJ : JDK l G Rp) (hc : gC p s m args meth c G RX0 "credit" cX0_credit 4 (some .int)) (l0 : Nat) (l1 : Int32) (l2 : Int32) (S : gS) (H : Heap) (locs : List Loc) (ls : Array Slot) (kc ks C N : Nat) (hkc : kc + C ≤ mc) (hks : ks + N ≤ ms) (hH : hp G Rp S H) (hS : va_S G.2.2.2 s.heap H locs) (hl : lv_has ls 4 [(0, .ref l0), (1, .int l1), (2, .int l2)]) (hf : fX0_credit l0 l1 l2 S = some (r, Sf, C, N)) : W p l e (gR 17 582 mc ms) s m args below meth c H locs kc ks (gQ below G Rp (some (.int r)) Sf args s mc ms) (F0 m 0 ls []) := by
  obtain ⟨hx, hb, hr, hlk, hml, hown, hts, hE, hA, hnm⟩ := hc
  have hc : gC p s m args meth c G RX0 "credit" cX0_credit 4 (some .int) := ⟨hx, hb, hr, hlk, hml, hown, hts, hE, hA, hnm⟩
  unfold fX0_credit at hf
  refine lv_aload_n (pc := 0) hx hb dX0_credit_0 rfl (lv_at hl 0 rfl) ?_
  refine lv_iload_n (pc := 1) hx hb dX0_credit_1 rfl (lv_at hl 1 rfl) ?_
  obtain ⟨_, ek1, hf⟩ := bdo hf
  obtain ⟨v1, S1, c1, n1, c2_1, n2_1, e1, hf, hC1, hN1⟩ := gbo hf
  refine g_callV (pc := 2) (o := (some l0)) (b := l0) (As := [.int l1]) (rest := []) (st1 := [.int v1]) hc (mX0_isHere hk hJ (l0 := l0) (l1 := l1) e1) (cwV 1 hts (lw_V q1274 q1276 qs19 q97 q1277) rfl rfl rfl hdX0_isHere ⟨Nat.le_of_ble_eq_true rfl, Nat.le_of_ble_eq_true rfl⟩) (g_recv hE hk hH (ci := 0) (q := (RX0, TX0, 7)) rfl (chk_o ek1).choose_spec) rfl rfl hl.1 rfl rfl (lv_room (Nat.le_of_ble_eq_true rfl)) dX0_credit_2 hH hS (by omega) (by omega) (fun H locs hH hS => ?_)
  have hkc : kc + c1 + c2_1 ≤ mc := by omega
  have hks : ks + n1 + n2_1 ≤ ms := by omega
  refine lv_if_eq (pc := 5) (tgt := 18) hx hb dX0_credit_5 (by decide) (fun c2 => ?_) (fun c2 => ?_)
  · rw [if_pos c2] at hf
    exact wX0_credit_b18 hk hJ hc l0 S1 _ _ ls _ _ _ _ hkc hks hH hS (lv_sub hl [0] rfl) hf
  · rw [if_neg c2] at hf
    refine lv_iload_n (pc := 8) hx hb dX0_credit_8 rfl (lv_at hl 2 rfl) ?_
    refine lv_iconst (pc := 9) (v := nI 1) hx hb dX0_credit_9 rfl ?_
    refine lv_bipush (pc := 10) (v := nI 9) hx hb dX0_credit_10 gkb9 ?_
    obtain ⟨v3, S3, c3, n3, c2_3, n2_3, e3, hf, hC3, hN3⟩ := gbo hf
    refine g_callS (pc := 12) (As := [.int l2, .int (nI 1), .int (nI 9)]) (rest := []) (st1 := [.int v3]) hc (mX0_isIn hk hJ (l0 := l2) (l1 := (nI 1)) (l2 := (nI 9)) e3) (va_cwS 3 hts (lw_S q395 q396 q97 q397) rfl rfl rfl hdX0_isIn ⟨Nat.le_of_ble_eq_true rfl, Nat.le_of_ble_eq_true rfl⟩) rfl hl.1 rfl rfl (lv_room (Nat.le_of_ble_eq_true rfl)) dX0_credit_12 hH hS (by omega) (by omega) (fun H locs hH hS => ?_)
    have hkc : kc + c1 + c3 + c2_3 ≤ mc := by omega
    have hks : ks + n1 + n3 + n2_3 ≤ ms := by omega
    refine lv_if_ne (pc := 15) (tgt := 25) hx hb dX0_credit_15 (by decide) (fun c4 => ?_) (fun c4 => ?_)
    · rw [if_neg c4] at hf
      refine lv_aload_n (pc := 25) hx hb dX0_credit_25 rfl (lv_at hl 0 rfl) ?_
      obtain ⟨v5, e5, hf⟩ := bdo hf
      refine g_get (pc := 26) (o := (some l0)) (a := l0) (ci := 0) (k := 0) (v := va_rf v5) (C := RX0) (T := TX0) (N := 7) hx hb hts hown hE hk hH in_X0 rfl (by decide) (hts _ q272) (fun _ h9 => h9) rfl (rdR_o e5) dX0_credit_26 ?_
      obtain ⟨a6, ea6, hf⟩ := bdo hf
      obtain ⟨v7, e7, hf⟩ := bdo hf
      refine g_get (pc := 29) (o := v5) (a := a6) (ci := 1) (k := 1) (v := va_rf v7) (C := RX1) (T := TX1) (N := 7) hx hb hts hown hE hk hH in_X1 rfl (by decide) (hts _ q234) (fun _ h9 => h9) ea6 (rdR_o e7) dX0_credit_29 ?_
      refine lv_iload_n (pc := 32) hx hb dX0_credit_32 rfl (lv_at hl 1 rfl) ?_
      obtain ⟨a9, ea9, hf⟩ := bdo hf
      obtain ⟨v8, S8, c8, n8, c2_8, n2_8, e8, hf, hC8, hN8⟩ := gbo hf
      refine g_callV (pc := 33) (o := v7) (b := a9) (As := [.int l1]) (rest := []) (st1 := [va_rf v8]) hc (j_nAL_get hJ a9 l1 S3 v8 S8 c8 n8 e8) (cwV 1 hts (lw_V q1222 q1223 q1224 q101 q1225) rfl rfl rfl hdJ2_get ⟨Nat.le_of_ble_eq_true rfl, Nat.le_of_ble_eq_true rfl⟩) (j_recv hJ _ _ _ _ 0 _ _ hE hH hS (adtR (t := 0) (show bd _ _ = some _ from e8)).choose_spec) ea9 rfl hl.1 rfl rfl (lv_room (Nat.le_of_ble_eq_true rfl)) dX0_credit_33 hH hS (by omega) (by omega) (fun H locs hH hS => ?_)
      have hkc : kc + c1 + c3 + c8 + c2_8 ≤ mc := by omega
      have hks : ks + n1 + n3 + n8 + n2_8 ≤ ms := by omega
      obtain ⟨_, e10, hf⟩ := bdo hf
      refine g_cast (pc := 36) (o := v8) (ci := 6) (C := RX10) (T := TX10) (N := 5) hx hb hts hown hE hk hH rfl q1238 e10 dX0_credit_36 ?_
      refine g_astore_n (pc := 39) (i := 3) (o := v8) (lv' := [(3, va_rf v8), (0, .ref l0), (1, .int l1), (2, .int l2)]) hx hb dX0_credit_39 rfl hl (by decide) rfl (fun ls hl => ?_)
      refine g_aload_n (pc := 40) (o := v8) hx hb dX0_credit_40 rfl (lv_at hl 0 rfl) ?_
      obtain ⟨a11, ea11, hf⟩ := bdo hf
      obtain ⟨v12, e12, hf⟩ := bdo hf
      refine g_get (pc := 41) (o := v8) (a := a11) (ci := 6) (k := 2) (v := .int v12) (C := RX10) (T := TX10) (N := 5) hx hb hts hown hE hk hH in_X10 rfl (by decide) (hts _ q1252) (fun _ h9 => h9) ea11 (rdI_o e12) dX0_credit_41 ?_
      refine lv_iload_n (pc := 44) hx hb dX0_credit_44 rfl (lv_at hl 3 rfl) ?_
      refine lv_iadd (pc := 45) hx hb dX0_credit_45 ?_
      refine lv_bipush (pc := 46) (v := nI 9) hx hb dX0_credit_46 gkb9 ?_
      refine lv_icmp_le (pc := 48) (tgt := 58) hx hb dX0_credit_48 (by decide) (fun c13 => ?_) (fun c13 => ?_)
      · rw [if_pos c13] at hf
        refine g_aload_n (pc := 58) (o := v8) hx hb dX0_credit_58 rfl (lv_at hl 0 rfl) ?_
        refine lv_dup (pc := 59) hx hb dX0_credit_59 (va_rf_cat _) ?_
        obtain ⟨v14, e14, hf⟩ := bdo hf
        refine g_get (pc := 60) (o := v8) (a := a11) (ci := 6) (k := 2) (v := .int v14) (C := RX10) (T := TX10) (N := 5) hx hb hts hown hE hk hH in_X10 rfl (by decide) (hts _ q1252) (fun _ h9 => h9) ea11 (rdI_o e14) dX0_credit_60 ?_
        refine lv_iload_n (pc := 63) hx hb dX0_credit_63 rfl (lv_at hl 3 rfl) ?_
        refine lv_iadd (pc := 64) hx hb dX0_credit_64 ?_
        obtain ⟨S15, e15, hf⟩ := bdo hf
        refine g_put (pc := 65) (o := v8) (a := a11) (ci := 6) (k := 2) (v := .int (v14 + l2)) (C := RX10) (T := TX10) (N := 5) (ty := .int) hx hb hts hown hE hk hH hS rfl in_X10 tyX10_ok nmX10 rfl (by decide) (hts _ q1252) (fun _ h9 => h9) rfl rfl rfl rfl ea11 e15 dX0_credit_65 (fun H locs hH hS => ?_)
        refine g_aload_n (pc := 68) (o := v8) hx hb dX0_credit_68 rfl (lv_at hl 0 rfl) ?_
        obtain ⟨v16, e16, hf⟩ := bdo hf
        refine g_get (pc := 69) (o := v8) (a := a11) (ci := 6) (k := 2) (v := .int v16) (C := RX10) (T := TX10) (N := 5) hx hb hts hown hE hk hH in_X10 rfl (by decide) (hts _ q1252) (fun _ h9 => h9) ea11 (rdI_o e16) dX0_credit_69 ?_
        exact g_iret (pc := 72) hx hb hr hlk hH hS hkc hks hf dX0_credit_72
      · rw [if_neg c13] at hf
        refine lv_aload_n (pc := 51) hx hb dX0_credit_51 rfl (lv_at hl 1 rfl) ?_
        refine lv_bipush (pc := 52) (v := -86) hx hb dX0_credit_52 gkbm86 ?_
        obtain ⟨_, ek17, hf⟩ := bdo hf
        obtain ⟨v17, S17, c17, n17, c2_17, n2_17, e17, hf, hC17, hN17⟩ := gbo hf
        refine g_callV (pc := 54) (o := (some l0)) (b := l0) (As := [.int (-86)]) (rest := []) (st1 := [.int v17]) hc (mX0_no hk hJ (l0 := l0) (l1 := (-86)) e17) (cwV 1 hts (lw_V q398 q400 qs2 q97 q401) rfl rfl rfl hdX0_no ⟨Nat.le_of_ble_eq_true rfl, Nat.le_of_ble_eq_true rfl⟩) (g_recv hE hk hH (ci := 0) (q := (RX0, TX0, 7)) rfl (chk_o ek17).choose_spec) rfl rfl hl.1 rfl rfl (lv_room (Nat.le_of_ble_eq_true rfl)) dX0_credit_54 hH hS (by omega) (by omega) (fun H locs hH hS => ?_)
        have hkc : kc + c1 + c3 + c8 + c17 + c2_17 ≤ mc := by omega
        have hks : ks + n1 + n3 + n8 + n17 + n2_17 ≤ ms := by omega
        exact g_iret (pc := 57) hx hb hr hlk hH hS hkc hks hf dX0_credit_57
    · rw [if_pos c4] at hf
      exact wX0_credit_b18 hk hJ hc l0 S3 _ _ ls _ _ _ _ hkc hks hH hS (lv_sub hl [0] rfl) hf
theorem mX0_credit {l : Launch} {G : gG} {Rp : gM → gM → Nat → Prop} (hk : rOK Rp) (hJ : JDK l G Rp) {S S2 : gS} {r2 : Int32} {C N : Nat} {l0 : Nat} {l1 : Int32} {l2 : Int32} (hf : fX0_credit l0 l1 l2 S = some (r2, S2, C, N)) : gMet l yX0_credit cX0_credit 4 (some .int) 17 582 G Rp [.ref l0, .int l1, .int l2] S (some (.int r2)) S2 C N := by
  refine g_start (by decide) (Nat.le_of_ble_eq_true rfl) (fun p e s m args below meth c ls hc hl hH => ?_)
  have hl : lv_has ls 4 [(0, .ref l0), (1, .int l1), (2, .int l2)] := hl
  exact wX0_credit_b0 hk hJ hc l0 l1 l2 S _ _ ls 0 0 C N (by omega) (by omega) hH va_S.rf (lv_sub hl [0, 1, 2] rfl) hf
end
section
variable {r : Int32} {Sf : gS}
def fX1_draw (l0 : Nat) (l1 : Int32) (S : gS) : gO Int32 :=
  bd (rdI S l0 1 6) fun v1 =>
  bd (wr S l0 1 6 (.int ((v1 * (nI 1103515245)) + (nI 12345)))) fun S2 =>
  bd (rdI S2 l0 1 6) fun v3 =>
  bd (grem ((v3.toUInt32 >>> ((nI 16).toUInt32 &&& Int32.toUInt32 31)).toInt32) l1) fun v4 =>
  some (v4, S2, 0, 0)
theorem wX1_draw_b0 (hk : rOK Rp) (hJ : JDK l G Rp) (hc : gC p s m args meth c G RX1 "draw" cX1_draw 2 (some .int)) (l0 : Nat) (l1 : Int32) (S : gS) (H : Heap) (locs : List Loc) (ls : Array Slot) (kc ks C N : Nat) (hkc : kc + C ≤ mc) (hks : ks + N ≤ ms) (hH : hp G Rp S H) (hS : va_S G.2.2.2 s.heap H locs) (hl : lv_has ls 2 [(0, .ref l0), (1, .int l1)]) (hf : fX1_draw l0 l1 S = some (r, Sf, C, N)) : W p l e (gR 1 40 mc ms) s m args below meth c H locs kc ks (gQ below G Rp (some (.int r)) Sf args s mc ms) (F0 m 0 ls []) := by
  obtain ⟨hx, hb, hr, hlk, hml, hown, hts, hE, hA, hnm⟩ := hc
  have hc : gC p s m args meth c G RX1 "draw" cX1_draw 2 (some .int) := ⟨hx, hb, hr, hlk, hml, hown, hts, hE, hA, hnm⟩
  unfold fX1_draw at hf
  refine lv_aload_n (pc := 0) hx hb dX1_draw_0 rfl (lv_at hl 0 rfl) ?_
  refine lv_aload_n (pc := 1) hx hb dX1_draw_1 rfl (lv_at hl 0 rfl) ?_
  obtain ⟨v1, e1, hf⟩ := bdo hf
  refine g_get (pc := 2) (o := (some l0)) (a := l0) (ci := 1) (k := 6) (v := .int v1) (C := RX1) (T := TX1) (N := 7) hx hb hts hown hE hk hH in_X1 rfl (by decide) (hts _ q243) (fun _ h9 => h9) rfl (rdI_o e1) dX1_draw_2 ?_
  refine lv_ldcw (pc := 5) (v := nI 1103515245) hx hb hown (hts _ q2783) dX1_draw_5 ?_
  refine lv_imul (pc := 8) hx hb dX1_draw_8 ?_
  refine lv_sipush (pc := 9) (v := nI 12345) hx hb dX1_draw_9 gks12345 ?_
  refine lv_iadd (pc := 12) hx hb dX1_draw_12 ?_
  obtain ⟨S2, e2, hf⟩ := bdo hf
  refine g_put (pc := 13) (o := (some l0)) (a := l0) (ci := 1) (k := 6) (v := .int ((v1 * (nI 1103515245)) + (nI 12345))) (C := RX1) (T := TX1) (N := 7) (ty := .int) hx hb hts hown hE hk hH hS rfl in_X1 tyX1_ok nmX1 rfl (by decide) (hts _ q243) (fun _ h9 => h9) rfl rfl rfl rfl rfl e2 dX1_draw_13 (fun H locs hH hS => ?_)
  refine lv_aload_n (pc := 16) hx hb dX1_draw_16 rfl (lv_at hl 0 rfl) ?_
  obtain ⟨v3, e3, hf⟩ := bdo hf
  refine g_get (pc := 17) (o := (some l0)) (a := l0) (ci := 1) (k := 6) (v := .int v3) (C := RX1) (T := TX1) (N := 7) hx hb hts hown hE hk hH in_X1 rfl (by decide) (hts _ q243) (fun _ h9 => h9) rfl (rdI_o e3) dX1_draw_17 ?_
  refine lv_bipush (pc := 20) (v := nI 16) hx hb dX1_draw_20 gkb16 ?_
  refine lv_iushr (pc := 22) hx hb dX1_draw_22 rfl ?_
  refine lv_iload_n (pc := 23) hx hb dX1_draw_23 rfl (lv_at hl 1 rfl) ?_
  obtain ⟨v4, e4, hf⟩ := bdo hf
  refine g_irem (pc := 24) hx hb dX1_draw_24 e4 ?_
  exact g_iret (pc := 25) hx hb hr hlk hH hS hkc hks hf dX1_draw_25
theorem mX1_draw {l : Launch} {G : gG} {Rp : gM → gM → Nat → Prop} (hk : rOK Rp) (hJ : JDK l G Rp) {S S2 : gS} {r2 : Int32} {C N : Nat} {l0 : Nat} {l1 : Int32} (hf : fX1_draw l0 l1 S = some (r2, S2, C, N)) : gMet l yX1_draw cX1_draw 2 (some .int) 1 40 G Rp [.ref l0, .int l1] S (some (.int r2)) S2 C N := by
  refine g_start (by decide) (Nat.le_of_ble_eq_true rfl) (fun p e s m args below meth c ls hc hl hH => ?_)
  have hl : lv_has ls 2 [(0, .ref l0), (1, .int l1)] := hl
  exact wX1_draw_b0 hk hJ hc l0 l1 S _ _ ls 0 0 C N (by omega) (by omega) hH va_S.rf (lv_sub hl [0, 1] rfl) hf
end
section
variable {r : Int32} {Sf : gS}
def fX6_many (l0 : Nat) (S : gS) : gO Int32 :=
  bd (rdR S l0 8 1) fun v1 =>
  bd v1 fun a3 =>
  gb (nAL_size a3  S) fun v2 S2 =>
  some (v2, S2, 0, 0)
theorem wX6_many_b0 (hk : rOK Rp) (hJ : JDK l G Rp) (hc : gC p s m args meth c G RX6 "many" cX6_many 1 (some .int)) (l0 : Nat) (S : gS) (H : Heap) (locs : List Loc) (ls : Array Slot) (kc ks C N : Nat) (hkc : kc + C ≤ mc) (hks : ks + N ≤ ms) (hH : hp G Rp S H) (hS : va_S G.2.2.2 s.heap H locs) (hl : lv_has ls 1 [(0, .ref l0)]) (hf : fX6_many l0 S = some (r, Sf, C, N)) : W p l e (gR 15 540 mc ms) s m args below meth c H locs kc ks (gQ below G Rp (some (.int r)) Sf args s mc ms) (F0 m 0 ls []) := by
  obtain ⟨hx, hb, hr, hlk, hml, hown, hts, hE, hA, hnm⟩ := hc
  have hc : gC p s m args meth c G RX6 "many" cX6_many 1 (some .int) := ⟨hx, hb, hr, hlk, hml, hown, hts, hE, hA, hnm⟩
  unfold fX6_many at hf
  refine lv_aload_n (pc := 0) hx hb dX6_many_0 rfl (lv_at hl 0 rfl) ?_
  obtain ⟨v1, e1, hf⟩ := bdo hf
  refine g_get (pc := 1) (o := (some l0)) (a := l0) (ci := 8) (k := 1) (v := va_rf v1) (C := RX6) (T := TX6) (N := 3) hx hb hts hown hE hk hH in_X6 rfl (by decide) (hts _ q983) (fun _ h9 => h9) rfl (rdR_o e1) dX6_many_1 ?_
  obtain ⟨a3, ea3, hf⟩ := bdo hf
  obtain ⟨v2, S2, c2, n2, c2_2, n2_2, e2, hf, hC2, hN2⟩ := gbo hf
  refine g_callV (pc := 4) (o := v1) (b := a3) (As := []) (rest := []) (st1 := [.int v2]) hc (j_nAL_size hJ a3  S v2 S2 c2 n2 e2) (cwV 0 hts (lw_V q1119 q1120 q1121 q101 q1122) rfl rfl rfl hdJ2_size ⟨Nat.le_of_ble_eq_true rfl, Nat.le_of_ble_eq_true rfl⟩) (j_recv hJ _ _ _ _ 0 _ _ hE hH hS (adtR (t := 0) (show bd _ _ = some _ from e2)).choose_spec) ea3 rfl hl.1 rfl rfl (lv_room (Nat.le_of_ble_eq_true rfl)) dX6_many_4 hH hS (by omega) (by omega) (fun H locs hH hS => ?_)
  have hkc : kc + c2 + c2_2 ≤ mc := by omega
  have hks : ks + n2 + n2_2 ≤ ms := by omega
  exact g_iret (pc := 7) hx hb hr hlk hH hS hkc hks hf dX6_many_7
theorem mX6_many {l : Launch} {G : gG} {Rp : gM → gM → Nat → Prop} (hk : rOK Rp) (hJ : JDK l G Rp) {S S2 : gS} {r2 : Int32} {C N : Nat} {l0 : Nat} (hf : fX6_many l0 S = some (r2, S2, C, N)) : gMet l yX6_many cX6_many 1 (some .int) 15 540 G Rp [.ref l0] S (some (.int r2)) S2 C N := by
  refine g_start (by decide) (Nat.le_of_ble_eq_true rfl) (fun p e s m args below meth c ls hc hl hH => ?_)
  have hl : lv_has ls 1 [(0, .ref l0)] := hl
  exact wX6_many_b0 hk hJ hc l0 S _ _ ls 0 0 C N (by omega) (by omega) hH va_S.rf (lv_sub hl [0] rfl) hf
end
section
variable {r : Unit} {Sf : gS}
def fX11_init (l0 : Nat) (l1 : Int32) (l2 : Int32) (l3 : Int32) (l4 : Option Nat) (S : gS) : gO Unit :=
  bd (wr S l0 5 0 (.int l1)) fun S2 =>
  bd (wr S2 l0 5 4 (.int l2)) fun S3 =>
  bd (wr S3 l0 5 5 (.int l3)) fun S4 =>
  bd l4 fun a6 =>
  bd (rdAi S4 a6 0 (nI 0)) fun v7 =>
  bd (wr S4 l0 5 1 (.int v7)) fun S8 =>
  bd (rdAi S8 a6 0 (nI 1)) fun v10 =>
  bd (wr S8 l0 5 2 (.int v10)) fun S11 =>
  bd (rdAi S11 a6 0 (nI 2)) fun v13 =>
  bd (wr S11 l0 5 3 (.int v13)) fun S14 =>
  some ((), S14, 0, 0)
theorem wX11_init_b0 (hk : rOK Rp) (hJ : JDK l G Rp) (hc : gC p s m args meth c G RX11 "<init>" cX11_init 5 (none)) (l0 : Nat) (l1 : Int32) (l2 : Int32) (l3 : Int32) (l4 : Option Nat) (S : gS) (H : Heap) (locs : List Loc) (ls : Array Slot) (kc ks C N : Nat) (hkc : kc + C ≤ mc) (hks : ks + N ≤ ms) (hH : hp G Rp S H) (hS : va_S G.2.2.2 s.heap H locs) (hl : lv_has ls 5 [(0, .ref l0), (1, .int l1), (2, .int l2), (3, .int l3), (4, va_rf l4)]) (hf : fX11_init l0 l1 l2 l3 l4 S = some (r, Sf, C, N)) : W p l e (gR 1 40 mc ms) s m args below meth c H locs kc ks (gQ below G Rp none Sf args s mc ms) (F0 m 0 ls []) := by
  obtain ⟨hx, hb, hr, hlk, hml, hown, hts, hE, hA, hnm⟩ := hc
  have hc : gC p s m args meth c G RX11 "<init>" cX11_init 5 (none) := ⟨hx, hb, hr, hlk, hml, hown, hts, hE, hA, hnm⟩
  unfold fX11_init at hf
  refine lv_aload_n (pc := 0) hx hb dX11_init_0 rfl (lv_at hl 0 rfl) ?_
  refine W.objInit  hx hb hown (hts _ q1544) (hts _ q169) (hts _ q170) rfl (by rw [hml]; exact hl.1) rfl dX11_init_1 (Nat.le_of_ble_eq_true rfl) (Nat.le_of_ble_eq_true rfl) ?_
  refine W.eq (g2 := F0 m 4 ls []) rfl ?_
  refine lv_aload_n (pc := 4) hx hb dX11_init_4 rfl (lv_at hl 0 rfl) ?_
  refine lv_iload_n (pc := 5) hx hb dX11_init_5 rfl (lv_at hl 1 rfl) ?_
  obtain ⟨S2, e2, hf⟩ := bdo hf
  refine g_putF (pc := 6) (o := (some l0)) (a := l0) (ci := 5) (k := 0) (v := .int l1) (C := RX11) (T := TX11) (N := 6) (ty := .int) hx hb hts hown hE hk hH hS rfl in_X11 tyX11_ok nmX11 rfl (by decide) (hts _ q1545) (fun _ h9 => h9) rfl hnm rfl rfl rfl rfl rfl e2 dX11_init_6 (fun H locs hH hS => ?_)
  refine lv_aload_n (pc := 9) hx hb dX11_init_9 rfl (lv_at hl 0 rfl) ?_
  refine lv_iload_n (pc := 10) hx hb dX11_init_10 rfl (lv_at hl 2 rfl) ?_
  obtain ⟨S3, e3, hf⟩ := bdo hf
  refine g_putF (pc := 11) (o := (some l0)) (a := l0) (ci := 5) (k := 4) (v := .int l2) (C := RX11) (T := TX11) (N := 6) (ty := .int) hx hb hts hown hE hk hH hS rfl in_X11 tyX11_ok nmX11 rfl (by decide) (hts _ q1558) (fun _ h9 => h9) rfl hnm rfl rfl rfl rfl rfl e3 dX11_init_11 (fun H locs hH hS => ?_)
  refine lv_aload_n (pc := 14) hx hb dX11_init_14 rfl (lv_at hl 0 rfl) ?_
  refine lv_iload_n (pc := 15) hx hb dX11_init_15 rfl (lv_at hl 3 rfl) ?_
  obtain ⟨S4, e4, hf⟩ := bdo hf
  refine g_putF (pc := 16) (o := (some l0)) (a := l0) (ci := 5) (k := 5) (v := .int l3) (C := RX11) (T := TX11) (N := 6) (ty := .int) hx hb hts hown hE hk hH hS rfl in_X11 tyX11_ok nmX11 rfl (by decide) (hts _ q1562) (fun _ h9 => h9) rfl hnm rfl rfl rfl rfl rfl e4 dX11_init_16 (fun H locs hH hS => ?_)
  refine lv_aload_n (pc := 19) hx hb dX11_init_19 rfl (lv_at hl 0 rfl) ?_
  refine g_aload (pc := 20) (o := l4) hx hb dX11_init_20 (lv_at hl 4 rfl) ?_
  refine lv_iconst (pc := 22) (v := nI 0) hx hb dX11_init_22 rfl ?_
  obtain ⟨a6, ea6, hf⟩ := bdo hf
  obtain ⟨v7, e7, hf⟩ := bdo hf
  refine g_iald (pc := 23) (o := l4) (a := a6) hx hb hE hk hH ea6 e7 dX11_init_23 ?_
  obtain ⟨S8, e8, hf⟩ := bdo hf
  refine g_putF (pc := 24) (o := (some l0)) (a := l0) (ci := 5) (k := 1) (v := .int v7) (C := RX11) (T := TX11) (N := 6) (ty := .int) hx hb hts hown hE hk hH hS rfl in_X11 tyX11_ok nmX11 rfl (by decide) (hts _ q1550) (fun _ h9 => h9) rfl hnm rfl rfl rfl rfl rfl e8 dX11_init_24 (fun H locs hH hS => ?_)
  refine lv_aload_n (pc := 27) hx hb dX11_init_27 rfl (lv_at hl 0 rfl) ?_
  refine g_aload (pc := 28) (o := l4) hx hb dX11_init_28 (lv_at hl 4 rfl) ?_
  refine lv_iconst (pc := 30) (v := nI 1) hx hb dX11_init_30 rfl ?_
  obtain ⟨v10, e10, hf⟩ := bdo hf
  refine g_iald (pc := 31) (o := l4) (a := a6) hx hb hE hk hH ea6 e10 dX11_init_31 ?_
  obtain ⟨S11, e11, hf⟩ := bdo hf
  refine g_putF (pc := 32) (o := (some l0)) (a := l0) (ci := 5) (k := 2) (v := .int v10) (C := RX11) (T := TX11) (N := 6) (ty := .int) hx hb hts hown hE hk hH hS rfl in_X11 tyX11_ok nmX11 rfl (by decide) (hts _ q1553) (fun _ h9 => h9) rfl hnm rfl rfl rfl rfl rfl e11 dX11_init_32 (fun H locs hH hS => ?_)
  refine lv_aload_n (pc := 35) hx hb dX11_init_35 rfl (lv_at hl 0 rfl) ?_
  refine g_aload (pc := 36) (o := l4) hx hb dX11_init_36 (lv_at hl 4 rfl) ?_
  refine lv_iconst (pc := 38) (v := nI 2) hx hb dX11_init_38 rfl ?_
  obtain ⟨v13, e13, hf⟩ := bdo hf
  refine g_iald (pc := 39) (o := l4) (a := a6) hx hb hE hk hH ea6 e13 dX11_init_39 ?_
  obtain ⟨S14, e14, hf⟩ := bdo hf
  refine g_putF (pc := 40) (o := (some l0)) (a := l0) (ci := 5) (k := 3) (v := .int v13) (C := RX11) (T := TX11) (N := 6) (ty := .int) hx hb hts hown hE hk hH hS rfl in_X11 tyX11_ok nmX11 rfl (by decide) (hts _ q1556) (fun _ h9 => h9) rfl hnm rfl rfl rfl rfl rfl e14 dX11_init_40 (fun H locs hH hS => ?_)
  exact g_vret (pc := 43) hx hb hr hlk hH hS hkc hks hf dX11_init_43
theorem mX11_init {l : Launch} {G : gG} {Rp : gM → gM → Nat → Prop} (hk : rOK Rp) (hJ : JDK l G Rp) {S S2 : gS} {r2 : Unit} {C N : Nat} {l0 : Nat} {l1 : Int32} {l2 : Int32} {l3 : Int32} {l4 : Option Nat} (hf : fX11_init l0 l1 l2 l3 l4 S = some (r2, S2, C, N)) : gMet l yX11_init cX11_init 5 (none) 1 40 G Rp [.ref l0, .int l1, .int l2, .int l3, va_rf l4] S none S2 C N := by
  refine g_start (by decide) (by simp [lg_sl, va_rf_cat, cat_i, cat_j, cat_r]) (fun p e s m args below meth c ls hc hl hH => ?_)
  have hl : lv_has ls 5 [(0, .ref l0), (1, .int l1), (2, .int l2), (3, .int l3), (4, va_rf l4)] := by simpa [lv_args, va_rf_cat, cat_i, cat_j, cat_r] using hl
  exact wX11_init_b0 hk hJ hc l0 l1 l2 l3 l4 S _ _ ls 0 0 C N (by omega) (by omega) hH va_S.rf (lv_sub hl [0, 1, 2, 3, 4] rfl) hf
end
section
variable {r : Int32} {Sf : gS}
def fX8_isFull (l0 : Nat) (S : gS) : gO Int32 :=
  bd (rdR S l0 3 7) fun v1 =>
  bd v1 fun a3 =>
  gb (nAL_size a3  S) fun v2 S2 =>
  bd (rdI S2 l0 3 2) fun v4 =>
  if v2 < v4 then
    zg (nI 0) S2
  else
    zg (nI 1) S2
theorem wX8_isFull_b0 (hk : rOK Rp) (hJ : JDK l G Rp) (hc : gC p s m args meth c G RX8 "isFull" cX8_isFull 1 (some .boolean)) (l0 : Nat) (S : gS) (H : Heap) (locs : List Loc) (ls : Array Slot) (kc ks C N : Nat) (hkc : kc + C ≤ mc) (hks : ks + N ≤ ms) (hH : hp G Rp S H) (hS : va_S G.2.2.2 s.heap H locs) (hl : lv_has ls 1 [(0, .ref l0)]) (hf : fX8_isFull l0 S = some (r, Sf, C, N)) : W p l e (gR 15 540 mc ms) s m args below meth c H locs kc ks (gQ below G Rp (some (.int r)) Sf args s mc ms) (F0 m 0 ls []) := by
  obtain ⟨hx, hb, hr, hlk, hml, hown, hts, hE, hA, hnm⟩ := hc
  have hc : gC p s m args meth c G RX8 "isFull" cX8_isFull 1 (some .boolean) := ⟨hx, hb, hr, hlk, hml, hown, hts, hE, hA, hnm⟩
  unfold fX8_isFull at hf
  refine lv_aload_n (pc := 0) hx hb dX8_isFull_0 rfl (lv_at hl 0 rfl) ?_
  obtain ⟨v1, e1, hf⟩ := bdo hf
  refine g_get (pc := 1) (o := (some l0)) (a := l0) (ci := 3) (k := 7) (v := va_rf v1) (C := RX8) (T := TX8) (N := 13) hx hb hts hown hE hk hH in_X8 rfl (by decide) (hts _ q1167) (fun _ h9 => h9) rfl (rdR_o e1) dX8_isFull_1 ?_
  obtain ⟨a3, ea3, hf⟩ := bdo hf
  obtain ⟨v2, S2, c2, n2, c2_2, n2_2, e2, hf, hC2, hN2⟩ := gbo hf
  refine g_callV (pc := 4) (o := v1) (b := a3) (As := []) (rest := []) (st1 := [.int v2]) hc (j_nAL_size hJ a3  S v2 S2 c2 n2 e2) (cwV 0 hts (lw_V q1605 q1120 q1121 q101 q1122) rfl rfl rfl hdJ2_size ⟨Nat.le_of_ble_eq_true rfl, Nat.le_of_ble_eq_true rfl⟩) (j_recv hJ _ _ _ _ 0 _ _ hE hH hS (adtR (t := 0) (show bd _ _ = some _ from e2)).choose_spec) ea3 rfl hl.1 rfl rfl (lv_room (Nat.le_of_ble_eq_true rfl)) dX8_isFull_4 hH hS (by omega) (by omega) (fun H locs hH hS => ?_)
  have hkc : kc + c2 + c2_2 ≤ mc := by omega
  have hks : ks + n2 + n2_2 ≤ ms := by omega
  refine lv_aload_n (pc := 7) hx hb dX8_isFull_7 rfl (lv_at hl 0 rfl) ?_
  obtain ⟨v4, e4, hf⟩ := bdo hf
  refine g_get (pc := 8) (o := (some l0)) (a := l0) (ci := 3) (k := 2) (v := .int v4) (C := RX8) (T := TX8) (N := 13) hx hb hts hown hE hk hH in_X8 rfl (by decide) (hts _ q1156) (fun _ h9 => h9) rfl (rdI_o e4) dX8_isFull_8 ?_
  refine lv_icmp_lt (pc := 11) (tgt := 18) hx hb dX8_isFull_11 (by decide) (fun c5 => ?_) (fun c5 => ?_)
  · rw [if_pos c5] at hf
    refine lv_iconst (pc := 18) (v := nI 0) hx hb dX8_isFull_18 rfl ?_
    exact g_zret (pc := 19) hx hb hr hlk hH hS hkc hks hf dX8_isFull_19
  · rw [if_neg c5] at hf
    refine lv_iconst (pc := 14) (v := nI 1) hx hb dX8_isFull_14 rfl ?_
    refine lv_goto (pc := 15) (tgt := 19) hx hb dX8_isFull_15 (by decide) ?_
    exact g_zret (pc := 19) hx hb hr hlk hH hS hkc hks hf dX8_isFull_19
theorem mX8_isFull {l : Launch} {G : gG} {Rp : gM → gM → Nat → Prop} (hk : rOK Rp) (hJ : JDK l G Rp) {S S2 : gS} {r2 : Int32} {C N : Nat} {l0 : Nat} (hf : fX8_isFull l0 S = some (r2, S2, C, N)) : gMet l yX8_isFull cX8_isFull 1 (some .boolean) 15 540 G Rp [.ref l0] S (some (.int r2)) S2 C N := by
  refine g_start (by decide) (Nat.le_of_ble_eq_true rfl) (fun p e s m args below meth c ls hc hl hH => ?_)
  have hl : lv_has ls 1 [(0, .ref l0)] := hl
  exact wX8_isFull_b0 hk hJ hc l0 S _ _ ls 0 0 C N (by omega) (by omega) hH va_S.rf (lv_sub hl [0] rfl) hf
end
end
