/-! printed by gen/cgen.py: methods of the component, lifted and walked (5) -/
set_option maxRecDepth 100000
set_option maxHeartbeats 4000000
section
variable {p : Program} {l : Launch} {e : Env} {s : State} {m : MethodId} {args : Array Value} {below : List Frame} {meth : Method} {c : Code} {G : gG} {Rp : gM → gM → Nat → Prop} {mc ms : Nat}
section
variable {r : Int32} {Sf : gS}
def fX1_refuses (l0 : Nat) (l1 : Option Nat) (l2 : Option Nat) (S : gS) : gO Int32 :=
  bd (chk S l0 1) fun _ =>
  gb (fX1_returns l0 l2 S) fun v1 S1 =>
  bd v1 fun a3 =>
  bd (chk S1 a3 6) fun _ =>
  gb (fX10_gains a3 S1) fun _ S2 =>
  bd l2 fun a4 =>
  bd (rdI S2 a4 4 3) fun v5 =>
  bd (wr S2 a4 4 3 (.int (v5 + (nI 1)))) fun S6 =>
  bd (chk S6 l0 1) fun _ =>
  gb (fX1_queueOf l0 l1 S6) fun v7 S7 =>
  nw S7 (cO 11 [.int 0, .null, .int 0, .int 0, .int 0]) 5 fun S8 =>
  bd (rdI S8 l0 1 5) fun v9 =>
  gb (fX18_init S7.2 v9 l2 S8) fun _ S10 =>
  bd (chk S10 l0 1) fun _ =>
  gb (fX1_fails l0 v7 l2 (some S7.2) S10) fun v11 S11 =>
  if v11 = 0 then
    bd (rdI S11 a4 4 3) fun v13 =>
    some (v13, S11, 0, 0)
  else
    bd v7 fun a14 =>
    bd (rdR S11 a14 3 7) fun v15 =>
    bd v15 fun a17 =>
    gb (nAL_removeO a17 l2 S11) fun v16 S16 =>
    bd (rdI S16 a4 4 3) fun v18 =>
    some (v18, S16, 0, 0)
theorem wX1_refuses_b0 (hk : rOK Rp) (hJ : JDK l G Rp) (hc : gC p s m args meth c G RX1 "refuses" cX1_refuses 4 (some .int)) (l0 : Nat) (l1 : Option Nat) (l2 : Option Nat) (S : gS) (H : Heap) (locs : List Loc) (ls : Array Slot) (kc ks C N : Nat) (hkc : kc + C ≤ mc) (hks : ks + N ≤ ms) (hH : hp G Rp S H) (hS : va_S G.2.2.2 s.heap H locs) (hl : lv_has ls 4 [(0, .ref l0), (1, va_rf l1), (2, va_rf l2)]) (hf : fX1_refuses l0 l1 l2 S = some (r, Sf, C, N)) : W p l e (gR 17 586 mc ms) s m args below meth c H locs kc ks (gQ below G Rp (some (.int r)) Sf args s mc ms) (F0 m 0 ls []) := by
  obtain ⟨hx, hb, hr, hlk, hml, hown, hts, hE, hA, hnm⟩ := hc
  have hc : gC p s m args meth c G RX1 "refuses" cX1_refuses 4 (some .int) := ⟨hx, hb, hr, hlk, hml, hown, hts, hE, hA, hnm⟩
  unfold fX1_refuses at hf
  refine lv_aload_n (pc := 0) hx hb dX1_refuses_0 rfl (lv_at hl 0 rfl) ?_
  refine g_aload_n (pc := 1) (o := l2) hx hb dX1_refuses_1 rfl (lv_at hl 2 rfl) ?_
  obtain ⟨_, ek1, hf⟩ := bdo hf
  obtain ⟨v1, S1, c1, n1, c2_1, n2_1, e1, hf, hC1, hN1⟩ := gbo hf
  refine g_callV (pc := 2) (o := (some l0)) (b := l0) (As := [va_rf l2]) (rest := []) (st1 := [va_rf v1]) hc (mX1_returns hk hJ (l0 := l0) (l1 := l2) e1) (cwV 1 hts (lw_V q1789 q1791 qs28 q98 q1792) rfl rfl rfl hdX1_returns ⟨Nat.le_of_ble_eq_true rfl, Nat.le_of_ble_eq_true rfl⟩) (g_recv hE hk hH (ci := 1) (q := (RX1, TX1, 7)) rfl (chk_o ek1).choose_spec) rfl rfl hl.1 rfl rfl (lv_room (Nat.le_of_ble_eq_true rfl)) dX1_refuses_2 hH hS (by omega) (by omega) (fun H locs hH hS => ?_)
  have hkc : kc + c1 + c2_1 ≤ mc := by omega
  have hks : ks + n1 + n2_1 ≤ ms := by omega
  obtain ⟨a3, ea3, hf⟩ := bdo hf
  obtain ⟨_, ek2, hf⟩ := bdo hf
  obtain ⟨_, S2, c2, n2, c2_2, n2_2, e2, hf, hC2, hN2⟩ := gbo hf
  refine g_callV (pc := 5) (o := v1) (b := a3) (As := []) (rest := []) (st1 := []) hc (mX10_gains hk hJ (l0 := a3) e2) (cwV 0 hts (lw_V q1793 q1794 q1795 q134 q1796) rfl rfl rfl hdX10_gains ⟨Nat.le_of_ble_eq_true rfl, Nat.le_of_ble_eq_true rfl⟩) (g_recv hE hk hH (ci := 6) (q := (RX10, TX10, 5)) rfl (chk_o ek2).choose_spec) ea3 rfl hl.1 rfl rfl (lv_room (Nat.le_of_ble_eq_true rfl)) dX1_refuses_5 hH hS (by omega) (by omega) (fun H locs hH hS => ?_)
  have hkc : kc + c1 + c2 + c2_2 ≤ mc := by omega
  have hks : ks + n1 + n2 + n2_2 ≤ ms := by omega
  refine g_aload_n (pc := 8) (o := l2) hx hb dX1_refuses_8 rfl (lv_at hl 2 rfl) ?_
  refine lv_dup (pc := 9) hx hb dX1_refuses_9 (va_rf_cat _) ?_
  obtain ⟨a4, ea4, hf⟩ := bdo hf
  obtain ⟨v5, e5, hf⟩ := bdo hf
  refine g_get (pc := 10) (o := l2) (a := a4) (ci := 4) (k := 3) (v := .int v5) (C := RX16) (T := TX16) (N := 6) hx hb hts hown hE hk hH in_X16 rfl (by decide) (hts _ q1722) (fun _ h9 => h9) ea4 (rdI_o e5) dX1_refuses_10 ?_
  refine lv_iconst (pc := 13) (v := nI 1) hx hb dX1_refuses_13 rfl ?_
  refine lv_iadd (pc := 14) hx hb dX1_refuses_14 ?_
  obtain ⟨S6, e6, hf⟩ := bdo hf
  refine g_put (pc := 15) (o := l2) (a := a4) (ci := 4) (k := 3) (v := .int (v5 + (nI 1))) (C := RX16) (T := TX16) (N := 6) (ty := .int) hx hb hts hown hE hk hH hS rfl in_X16 tyX16_ok nmX16 rfl (by decide) (hts _ q1722) (fun _ h9 => h9) rfl rfl rfl rfl ea4 e6 dX1_refuses_15 (fun H locs hH hS => ?_)
  refine lv_aload_n (pc := 18) hx hb dX1_refuses_18 rfl (lv_at hl 0 rfl) ?_
  refine g_aload_n (pc := 19) (o := l1) hx hb dX1_refuses_19 rfl (lv_at hl 1 rfl) ?_
  obtain ⟨_, ek7, hf⟩ := bdo hf
  obtain ⟨v7, S7, c7, n7, c2_7, n2_7, e7, hf, hC7, hN7⟩ := gbo hf
  refine g_callV (pc := 20) (o := (some l0)) (b := l0) (As := [va_rf l1]) (rest := []) (st1 := [va_rf v7]) hc (mX1_queueOf hk hJ (l0 := l0) (l1 := l1) e7) (cwV 1 hts (lw_V q1286 q1287 q1288 q98 q1289) rfl rfl rfl hdX1_queueOf ⟨Nat.le_of_ble_eq_true rfl, Nat.le_of_ble_eq_true rfl⟩) (g_recv hE hk hH (ci := 1) (q := (RX1, TX1, 7)) rfl (chk_o ek7).choose_spec) rfl rfl hl.1 rfl rfl (lv_room (Nat.le_of_ble_eq_true rfl)) dX1_refuses_20 hH hS (by omega) (by omega) (fun H locs hH hS => ?_)
  have hkc : kc + c1 + c2 + c7 + c2_7 ≤ mc := by omega
  have hks : ks + n1 + n2 + n7 + n2_7 ≤ ms := by omega
  refine g_astore_n (pc := 23) (i := 3) (o := v7) (lv' := [(3, va_rf v7), (0, .ref l0), (1, va_rf l1), (2, va_rf l2)]) hx hb dX1_refuses_23 rfl hl (by decide) (by simp [va_rf_cat, cat_i, cat_j, cat_r] <;> rfl) (fun ls hl => ?_)
  refine lv_aload_n (pc := 24) hx hb dX1_refuses_24 rfl (lv_at hl 1 rfl) ?_
  refine g_aload_n (pc := 25) (o := v7) hx hb dX1_refuses_25 rfl (lv_at hl 0 rfl) ?_
  refine g_aload_n (pc := 26) (o := l2) hx hb dX1_refuses_26 rfl (lv_at hl 3 rfl) ?_
  obtain ⟨S8, c2_8, n2_8, eS8, hf, hC8, hN8⟩ := nwo hf
  refine g_newo (pc := 27) (ci := 11) (C := RX18) (T := TX18) (N := 5) (fs := [.int 0, .null, .int 0, .int 0, .int 0]) hx hb hts hown hE hA hk hH hS in_X18 tyX18_ok q1872 q1873 q146 rfl (fun j hj => by rcases (show j = 0 ∨ j = 1 ∨ j = 2 ∨ j = 3 ∨ j = 4 by omega) with rfl | rfl | rfl | rfl | rfl <;> rfl) eS8 (Nat.le_trans (by omega) hkc) (Nat.le_trans (by omega) hks) dX1_refuses_27 (fun H hH hS => ?_)
  have hkc : kc + c1 + c2 + c7 + 1 + c2_8 ≤ mc := by omega
  have hks : ks + n1 + n2 + n7 + 5 + n2_8 ≤ ms := by omega
  refine lv_dup (pc := 30) hx hb dX1_refuses_30 rfl ?_
  refine lv_aload_n (pc := 31) hx hb dX1_refuses_31 rfl (lv_at hl 1 rfl) ?_
  obtain ⟨v9, e9, hf⟩ := bdo hf
  refine g_get (pc := 32) (o := (some l0)) (a := l0) (ci := 1) (k := 5) (v := .int v9) (C := RX1) (T := TX1) (N := 7) hx hb hts hown hE hk hH in_X1 rfl (by decide) (hts _ q241) (fun _ h9 => h9) rfl (rdI_o e9) dX1_refuses_32 ?_
  refine g_aload_n (pc := 35) (o := l2) hx hb dX1_refuses_35 rfl (lv_at hl 3 rfl) ?_
  obtain ⟨_, S10, c10, n10, c2_10, n2_10, e10, hf, hC10, hN10⟩ := gbo hf
  refine g_callI (pc := 36) (o := (some S7.2)) (b := S7.2) (As := [.int v9, va_rf l2]) (rest := [.ref S7.2, va_rf l2, va_rf v7, .ref l0]) hc (mX18_init hk hJ (l0 := S7.2) (l1 := v9) (l2 := l2) e10) (cwI 2 hts (lw_meth q1876) rfl rfl rfl (hts _ q146) (hts _ q1874) (hts _ q1875) rfl hdiX18_init ⟨Nat.le_of_ble_eq_true rfl, Nat.le_of_ble_eq_true rfl⟩) rfl rfl hl.1 rfl (lv_room (by simp [va_rf_cat, cat_i, cat_j, cat_r])) dX1_refuses_36 hH hS (by omega) (by omega) (fun H locs hH hS => ?_)
  have hkc : kc + c1 + c2 + c7 + 1 + c10 + c2_10 ≤ mc := by omega
  have hks : ks + n1 + n2 + n7 + 5 + n10 + n2_10 ≤ ms := by omega
  obtain ⟨_, ek11, hf⟩ := bdo hf
  obtain ⟨v11, S11, c11, n11, c2_11, n2_11, e11, hf, hC11, hN11⟩ := gbo hf
  refine g_callV (pc := 39) (o := (some l0)) (b := l0) (As := [va_rf v7, va_rf l2, .ref S7.2]) (rest := []) (st1 := [.int v11]) hc (mX1_fails hk hJ (l0 := l0) (l1 := v7) (l2 := l2) (l3 := (some S7.2)) e11) (cwV 3 hts (lw_V q1898 q1900 qs31 q98 q1901) rfl rfl rfl hdX1_fails ⟨Nat.le_of_ble_eq_true rfl, Nat.le_of_ble_eq_true rfl⟩) (g_recv hE hk hH (ci := 1) (q := (RX1, TX1, 7)) rfl (chk_o ek11).choose_spec) rfl rfl hl.1 rfl rfl (lv_room (Nat.le_of_ble_eq_true rfl)) dX1_refuses_39 hH hS (by omega) (by omega) (fun H locs hH hS => ?_)
  have hkc : kc + c1 + c2 + c7 + 1 + c10 + c11 + c2_11 ≤ mc := by omega
  have hks : ks + n1 + n2 + n7 + 5 + n10 + n11 + n2_11 ≤ ms := by omega
  refine lv_if_eq (pc := 42) (tgt := 54) hx hb dX1_refuses_42 (by decide) (fun c12 => ?_) (fun c12 => ?_)
  · rw [if_pos c12] at hf
    refine g_aload_n (pc := 54) (o := l2) hx hb dX1_refuses_54 rfl (lv_at hl 3 rfl) ?_
    obtain ⟨v13, e13, hf⟩ := bdo hf
    refine g_get (pc := 55) (o := l2) (a := a4) (ci := 4) (k := 3) (v := .int v13) (C := RX16) (T := TX16) (N := 6) hx hb hts hown hE hk hH in_X16 rfl (by decide) (hts _ q1722) (fun _ h9 => h9) ea4 (rdI_o e13) dX1_refuses_55 ?_
    exact g_iret (pc := 58) hx hb hr hlk hH hS hkc hks hf dX1_refuses_58
  · rw [if_neg c12] at hf
    refine g_aload_n (pc := 45) (o := v7) hx hb dX1_refuses_45 rfl (lv_at hl 0 rfl) ?_
    obtain ⟨a14, ea14, hf⟩ := bdo hf
    obtain ⟨v15, e15, hf⟩ := bdo hf
    refine g_get (pc := 46) (o := v7) (a := a14) (ci := 3) (k := 7) (v := va_rf v15) (C := RX8) (T := TX8) (N := 13) hx hb hts hown hE hk hH in_X8 rfl (by decide) (hts _ q1168) (fun _ h9 => h9) ea14 (rdR_o e15) dX1_refuses_46 ?_
    refine g_aload_n (pc := 49) (o := l2) hx hb dX1_refuses_49 rfl (lv_at hl 3 rfl) ?_
    obtain ⟨a17, ea17, hf⟩ := bdo hf
    obtain ⟨v16, S16, c16, n16, c2_16, n2_16, e16, hf, hC16, hN16⟩ := gbo hf
    refine g_callV (pc := 50) (o := v15) (b := a17) (As := [va_rf l2]) (rest := []) (st1 := [.int v16]) hc (j_nAL_removeO hJ a17 l2 S11 v16 S16 c16 n16 e16) (cwV 1 hts (lw_V q1798 q1799 q1800 q101 q1801) rfl rfl rfl hdJ2_remove ⟨Nat.le_of_ble_eq_true rfl, Nat.le_of_ble_eq_true rfl⟩) (j_recv hJ _ _ _ _ 0 _ _ hE hH hS (adtR (t := 0) (show bd _ _ = some _ from e16)).choose_spec) ea17 rfl hl.1 rfl rfl (lv_room (Nat.le_of_ble_eq_true rfl)) dX1_refuses_50 hH hS (by omega) (by omega) (fun H locs hH hS => ?_)
    have hkc : kc + c1 + c2 + c7 + 1 + c10 + c11 + c16 + c2_16 ≤ mc := by omega
    have hks : ks + n1 + n2 + n7 + 5 + n10 + n11 + n16 + n2_16 ≤ ms := by omega
    refine lv_pop (pc := 53) hx hb dX1_refuses_53 rfl ?_
    refine g_aload_n (pc := 54) (o := l2) hx hb dX1_refuses_54 rfl (lv_at hl 3 rfl) ?_
    obtain ⟨v18, e18, hf⟩ := bdo hf
    refine g_get (pc := 55) (o := l2) (a := a4) (ci := 4) (k := 3) (v := .int v18) (C := RX16) (T := TX16) (N := 6) hx hb hts hown hE hk hH in_X16 rfl (by decide) (hts _ q1722) (fun _ h9 => h9) ea4 (rdI_o e18) dX1_refuses_55 ?_
    exact g_iret (pc := 58) hx hb hr hlk hH hS hkc hks hf dX1_refuses_58
theorem mX1_refuses {l : Launch} {G : gG} {Rp : gM → gM → Nat → Prop} (hk : rOK Rp) (hJ : JDK l G Rp) {S S2 : gS} {r2 : Int32} {C N : Nat} {l0 : Nat} {l1 : Option Nat} {l2 : Option Nat} (hf : fX1_refuses l0 l1 l2 S = some (r2, S2, C, N)) : gMet l yX1_refuses cX1_refuses 4 (some .int) 17 586 G Rp [.ref l0, va_rf l1, va_rf l2] S (some (.int r2)) S2 C N := by
  refine g_start (by decide) (by simp [lg_sl, va_rf_cat, cat_i, cat_j, cat_r]) (fun p e s m args below meth c ls hc hl hH => ?_)
  have hl : lv_has ls 4 [(0, .ref l0), (1, va_rf l1), (2, va_rf l2)] := by simpa [lv_args, va_rf_cat, cat_i, cat_j, cat_r] using hl
  exact wX1_refuses_b0 hk hJ hc l0 l1 l2 S _ _ ls 0 0 C N (by omega) (by omega) hH va_S.rf (lv_sub hl [0, 1, 2] rfl) hf
end
section
variable {r : Int32} {Sf : gS}
def fX1_answers (G : gG) (l0 : Nat) (l1 : Int32) (S : gS) : gO Int32 :=
  bd (rdR S l0 1 1) fun v1 =>
  bd (rdR S l0 1 1) fun v2 =>
  bd v2 fun a4 =>
  gb (nAL_size a4  S) fun v3 S3 =>
  bd (chk S3 l0 1) fun _ =>
  gb (fX1_draw l0 v3 S3) fun v5 S5 =>
  bd v1 fun a7 =>
  gb (nAL_get a7 v5 S5) fun v6 S6 =>
  bd (ckc S6 v6 6) fun _ =>
  bd (chk S6 l0 1) fun _ =>
  gb (fX1_queueOf l0 v6 S6) fun v9 S9 =>
  nw S9 (cAq 26 1 (fun _ => v6)) 1 fun S10 =>
  bd v9 fun a12 =>
  bd (chk S10 a12 3) fun _ =>
  gb (fX8_get G a12 (nI 0) (some S9.2) S10) fun v11 S11 =>
  if v11 = none then
    zg (nI 0) S11
  else
    if l1 = 0 then
      bd (chk S11 l0 1) fun _ =>
      gb (fX1_acknowledges l0 v6 v11 S11) fun _ S15 =>
      zg (nI 1) S15
    else
      bd (chk S11 l0 1) fun _ =>
      gb (fX1_refuses l0 v6 v11 S11) fun v16 S16 =>
      zg (nI 1) S16
theorem wX1_answers_b0 (hk : rOK Rp) (hJ : JDK l G Rp) (hc : gC p s m args meth c G RX1 "answers" cX1_answers 4 (some .boolean)) (hnd : s.methodNamed? yX1_answers = some m) (l0 : Nat) (l1 : Int32) (S : gS) (H : Heap) (locs : List Loc) (ls : Array Slot) (kc ks C N : Nat) (hkc : kc + C ≤ mc) (hks : ks + N ≤ ms) (hH : hp G Rp S H) (hS : va_S G.2.2.2 s.heap H locs) (hl : lv_has ls 4 [(0, .ref l0), (1, .int l1)]) (hf : fX1_answers G l0 l1 S = some (r, Sf, C, N)) : W p l e (gR 18 3300 mc ms) s m args below meth c H locs kc ks (gQ below G Rp (some (.int r)) Sf args s mc ms) (F0 m 0 ls []) := by
  obtain ⟨hx, hb, hr, hlk, hml, hown, hts, hE, hA, hnm⟩ := hc
  have hc : gC p s m args meth c G RX1 "answers" cX1_answers 4 (some .boolean) := ⟨hx, hb, hr, hlk, hml, hown, hts, hE, hA, hnm⟩
  unfold fX1_answers at hf
  refine lv_aload_n (pc := 0) hx hb dX1_answers_0 rfl (lv_at hl 0 rfl) ?_
  obtain ⟨v1, e1, hf⟩ := bdo hf
  refine g_get (pc := 1) (o := (some l0)) (a := l0) (ci := 1) (k := 1) (v := va_rf v1) (C := RX1) (T := TX1) (N := 7) hx hb hts hown hE hk hH in_X1 rfl (by decide) (hts _ q233) (fun _ h9 => h9) rfl (rdR_o e1) dX1_answers_1 ?_
  refine lv_aload_n (pc := 4) hx hb dX1_answers_4 rfl (lv_at hl 0 rfl) ?_
  refine lv_aload_n (pc := 5) hx hb dX1_answers_5 rfl (lv_at hl 0 rfl) ?_
  obtain ⟨v2, e2, hf⟩ := bdo hf
  refine g_get (pc := 6) (o := (some l0)) (a := l0) (ci := 1) (k := 1) (v := va_rf v2) (C := RX1) (T := TX1) (N := 7) hx hb hts hown hE hk hH in_X1 rfl (by decide) (hts _ q233) (fun _ h9 => h9) rfl (rdR_o e2) dX1_answers_6 ?_
  obtain ⟨a4, ea4, hf⟩ := bdo hf
  obtain ⟨v3, S3, c3, n3, c2_3, n2_3, e3, hf, hC3, hN3⟩ := gbo hf
  refine g_callV (pc := 9) (o := v2) (b := a4) (As := []) (rest := [.ref l0, va_rf v1]) (st1 := [.int v3, .ref l0, va_rf v1]) hc (j_nAL_size hJ a4  S v3 S3 c3 n3 e3) (cwV 0 hts (lw_V q1539 q1120 q1121 q101 q1122) rfl rfl rfl hdJ2_size ⟨Nat.le_of_ble_eq_true rfl, Nat.le_of_ble_eq_true rfl⟩) (j_recv hJ _ _ _ _ 0 _ _ hE hH hS (adtR (t := 0) (show bd _ _ = some _ from e3)).choose_spec) ea4 rfl hl.1 rfl rfl (lv_room (by simp [va_rf_cat, cat_i, cat_j, cat_r])) dX1_answers_9 hH hS (by omega) (by omega) (fun H locs hH hS => ?_)
  have hkc : kc + c3 + c2_3 ≤ mc := by omega
  have hks : ks + n3 + n2_3 ≤ ms := by omega
  obtain ⟨_, ek5, hf⟩ := bdo hf
  obtain ⟨v5, S5, c5, n5, c2_5, n2_5, e5, hf, hC5, hN5⟩ := gbo hf
  refine g_callV (pc := 12) (o := (some l0)) (b := l0) (As := [.int v3]) (rest := [va_rf v1]) (st1 := [.int v5, va_rf v1]) hc (mX1_draw hk hJ (l0 := l0) (l1 := v3) e5) (cwV 1 hts (lw_V q2779 q2780 q2781 q98 q2782) rfl rfl rfl hdX1_draw ⟨Nat.le_of_ble_eq_true rfl, Nat.le_of_ble_eq_true rfl⟩) (g_recv hE hk hH (ci := 1) (q := (RX1, TX1, 7)) rfl (chk_o ek5).choose_spec) rfl rfl hl.1 rfl rfl (lv_room (by simp [va_rf_cat, cat_i, cat_j, cat_r])) dX1_answers_12 hH hS (by omega) (by omega) (fun H locs hH hS => ?_)
  have hkc : kc + c3 + c5 + c2_5 ≤ mc := by omega
  have hks : ks + n3 + n5 + n2_5 ≤ ms := by omega
  obtain ⟨a7, ea7, hf⟩ := bdo hf
  obtain ⟨v6, S6, c6, n6, c2_6, n2_6, e6, hf, hC6, hN6⟩ := gbo hf
  refine g_callV (pc := 15) (o := v1) (b := a7) (As := [.int v5]) (rest := []) (st1 := [va_rf v6]) hc (j_nAL_get hJ a7 v5 S5 v6 S6 c6 n6 e6) (cwV 1 hts (lw_V q1290 q1223 q1224 q101 q1225) rfl rfl rfl hdJ2_get ⟨Nat.le_of_ble_eq_true rfl, Nat.le_of_ble_eq_true rfl⟩) (j_recv hJ _ _ _ _ 0 _ _ hE hH hS (adtR (t := 0) (show bd _ _ = some _ from e6)).choose_spec) ea7 rfl hl.1 rfl rfl (lv_room (Nat.le_of_ble_eq_true rfl)) dX1_answers_15 hH hS (by omega) (by omega) (fun H locs hH hS => ?_)
  have hkc : kc + c3 + c5 + c6 + c2_6 ≤ mc := by omega
  have hks : ks + n3 + n5 + n6 + n2_6 ≤ ms := by omega
  obtain ⟨_, e8, hf⟩ := bdo hf
  refine g_cast (pc := 18) (o := v6) (ci := 6) (C := RX10) (T := TX10) (N := 5) hx hb hts hown hE hk hH rfl q1767 e8 dX1_answers_18 ?_
  refine g_astore_n (pc := 21) (i := 2) (o := v6) (lv' := [(2, va_rf v6), (0, .ref l0), (1, .int l1)]) hx hb dX1_answers_21 rfl hl (by decide) rfl (fun ls hl => ?_)
  refine lv_aload_n (pc := 22) hx hb dX1_answers_22 rfl (lv_at hl 1 rfl) ?_
  refine g_aload_n (pc := 23) (o := v6) hx hb dX1_answers_23 rfl (lv_at hl 0 rfl) ?_
  obtain ⟨_, ek9, hf⟩ := bdo hf
  obtain ⟨v9, S9, c9, n9, c2_9, n2_9, e9, hf, hC9, hN9⟩ := gbo hf
  refine g_callV (pc := 24) (o := (some l0)) (b := l0) (As := [va_rf v6]) (rest := []) (st1 := [va_rf v9]) hc (mX1_queueOf hk hJ (l0 := l0) (l1 := v6) e9) (cwV 1 hts (lw_V q1286 q1287 q1288 q98 q1289) rfl rfl rfl hdX1_queueOf ⟨Nat.le_of_ble_eq_true rfl, Nat.le_of_ble_eq_true rfl⟩) (g_recv hE hk hH (ci := 1) (q := (RX1, TX1, 7)) rfl (chk_o ek9).choose_spec) rfl rfl hl.1 rfl rfl (lv_room (Nat.le_of_ble_eq_true rfl)) dX1_answers_24 hH hS (by omega) (by omega) (fun H locs hH hS => ?_)
  have hkc : kc + c3 + c5 + c6 + c9 + c2_9 ≤ mc := by omega
  have hks : ks + n3 + n5 + n6 + n9 + n2_9 ≤ ms := by omega
  refine lv_iconst (pc := 27) (v := nI 0) hx hb dX1_answers_27 rfl ?_
  refine g_aload_n (pc := 28) (o := v6) hx hb dX1_answers_28 rfl (lv_at hl 0 rfl) ?_
  obtain ⟨S10, c2_10, n2_10, eS10, hf, hC10, hN10⟩ := nwo hf
  refine g_lamMake (pc := 29) (t := 26) (v := va_rf v6) (cel := cAq 26 1 (fun _ => v6)) (a0 := (1, .inr (.inr (.inr (.inr (fun _ => v6)))))) (x := lxW) (y := yX1_lambda_answers_0) hx hb hml hts hE hA hk hH hS lC6 (gE_L hE).2.2.2.2.2.2.2.1 rfl (hts _ q3371) ly6 lx6 (static_ex (hts _ q2794)).choose_spec.choose_spec.1 (va_any rfl (gE_L hE).1.2) hnd lT6 rfl (nar_rf _ _) (fit_rf _ _) (va_rf_cat _) rfl (fun _ => rfl) eS10 hl.1 (by simp [gR, va_rf_cat, cat_i, cat_j, cat_r]) (Nat.le_trans (by omega) hkc) (Nat.le_trans (by omega) hks) dX1_answers_29 (fun H hH hS => ?_)
  have hkc : kc + c3 + c5 + c6 + c9 + 1 + c2_10 ≤ mc := by omega
  have hks : ks + n3 + n5 + n6 + n9 + 1 + n2_10 ≤ ms := by omega
  obtain ⟨a12, ea12, hf⟩ := bdo hf
  obtain ⟨_, ek11, hf⟩ := bdo hf
  obtain ⟨v11, S11, c11, n11, c2_11, n2_11, e11, hf, hC11, hN11⟩ := gbo hf
  refine g_callV (pc := 34) (o := v9) (b := a12) (As := [.int (nI 0), .ref S9.2]) (rest := []) (st1 := [va_rf v11]) hc (mX8_get hk hJ (l0 := a12) (l1 := (nI 0)) (l2 := (some S9.2)) e11) (cwV 2 hts (lw_V q2796 q2507 q2508 q131 q2509) rfl rfl rfl hdX8_get ⟨Nat.le_of_ble_eq_true rfl, Nat.le_of_ble_eq_true rfl⟩) (g_recv hE hk hH (ci := 3) (q := (RX8, TX8, 13)) rfl (chk_o ek11).choose_spec) ea12 rfl hl.1 rfl rfl (lv_room (Nat.le_of_ble_eq_true rfl)) dX1_answers_34 hH hS (by omega) (by omega) (fun H locs hH hS => ?_)
  have hkc : kc + c3 + c5 + c6 + c9 + 1 + c11 + c2_11 ≤ mc := by omega
  have hks : ks + n3 + n5 + n6 + n9 + 1 + n11 + n2_11 ≤ ms := by omega
  refine g_astore_n (pc := 37) (i := 3) (o := v11) (lv' := [(3, va_rf v11), (2, va_rf v6), (0, .ref l0), (1, .int l1)]) hx hb dX1_answers_37 rfl hl (by decide) (by simp [va_rf_cat, cat_i, cat_j, cat_r] <;> rfl) (fun ls hl => ?_)
  refine g_aload_n (pc := 38) (o := v11) hx hb dX1_answers_38 rfl (lv_at hl 0 rfl) ?_
  refine g_ifnonnull (pc := 39) (o := v11) (tgt := 44) hx hb dX1_answers_39 (by decide) (fun c13 => ?_) (fun c13 => ?_)
  · rw [if_neg c13] at hf
    refine lv_iload_n (pc := 44) hx hb dX1_answers_44 rfl (lv_at hl 3 rfl) ?_
    refine lv_if_eq (pc := 45) (tgt := 58) hx hb dX1_answers_45 (by decide) (fun c14 => ?_) (fun c14 => ?_)
    · rw [if_pos c14] at hf
      refine lv_aload_n (pc := 58) hx hb dX1_answers_58 rfl (lv_at hl 2 rfl) ?_
      refine g_aload_n (pc := 59) (o := v6) hx hb dX1_answers_59 rfl (lv_at hl 1 rfl) ?_
      refine g_aload_n (pc := 60) (o := v11) hx hb dX1_answers_60 rfl (lv_at hl 0 rfl) ?_
      obtain ⟨_, ek15, hf⟩ := bdo hf
      obtain ⟨_, S15, c15, n15, c2_15, n2_15, e15, hf, hC15, hN15⟩ := gbo hf
      refine g_callV (pc := 61) (o := (some l0)) (b := l0) (As := [va_rf v6, va_rf v11]) (rest := []) (st1 := []) hc (mX1_acknowledges hk hJ (l0 := l0) (l1 := v6) (l2 := v11) e15) (cwV 2 hts (lw_V q2798 q1786 q1787 q98 q1788) rfl rfl rfl hdX1_acknowledges ⟨Nat.le_of_ble_eq_true rfl, Nat.le_of_ble_eq_true rfl⟩) (g_recv hE hk hH (ci := 1) (q := (RX1, TX1, 7)) rfl (chk_o ek15).choose_spec) rfl rfl hl.1 rfl rfl (lv_room (Nat.le_of_ble_eq_true rfl)) dX1_answers_61 hH hS (by omega) (by omega) (fun H locs hH hS => ?_)
      have hkc : kc + c3 + c5 + c6 + c9 + 1 + c11 + c15 + c2_15 ≤ mc := by omega
      have hks : ks + n3 + n5 + n6 + n9 + 1 + n11 + n15 + n2_15 ≤ ms := by omega
      refine lv_iconst (pc := 64) (v := nI 1) hx hb dX1_answers_64 rfl ?_
      exact g_zret (pc := 65) hx hb hr hlk hH hS hkc hks hf dX1_answers_65
    · rw [if_neg c14] at hf
      refine lv_aload_n (pc := 48) hx hb dX1_answers_48 rfl (lv_at hl 2 rfl) ?_
      refine g_aload_n (pc := 49) (o := v6) hx hb dX1_answers_49 rfl (lv_at hl 1 rfl) ?_
      refine g_aload_n (pc := 50) (o := v11) hx hb dX1_answers_50 rfl (lv_at hl 0 rfl) ?_
      obtain ⟨_, ek16, hf⟩ := bdo hf
      obtain ⟨v16, S16, c16, n16, c2_16, n2_16, e16, hf, hC16, hN16⟩ := gbo hf
      refine g_callV (pc := 51) (o := (some l0)) (b := l0) (As := [va_rf v6, va_rf v11]) (rest := []) (st1 := [.int v16]) hc (mX1_refuses hk hJ (l0 := l0) (l1 := v6) (l2 := v11) e16) (cwV 2 hts (lw_V q2797 q1869 q1870 q98 q1871) rfl rfl rfl hdX1_refuses ⟨Nat.le_of_ble_eq_true rfl, Nat.le_of_ble_eq_true rfl⟩) (g_recv hE hk hH (ci := 1) (q := (RX1, TX1, 7)) rfl (chk_o ek16).choose_spec) rfl rfl hl.1 rfl rfl (lv_room (Nat.le_of_ble_eq_true rfl)) dX1_answers_51 hH hS (by omega) (by omega) (fun H locs hH hS => ?_)
      have hkc : kc + c3 + c5 + c6 + c9 + 1 + c11 + c16 + c2_16 ≤ mc := by omega
      have hks : ks + n3 + n5 + n6 + n9 + 1 + n11 + n16 + n2_16 ≤ ms := by omega
      refine lv_pop (pc := 54) hx hb dX1_answers_54 rfl ?_
      refine lv_goto (pc := 55) (tgt := 64) hx hb dX1_answers_55 (by decide) ?_
      refine lv_iconst (pc := 64) (v := nI 1) hx hb dX1_answers_64 rfl ?_
      exact g_zret (pc := 65) hx hb hr hlk hH hS hkc hks hf dX1_answers_65
  · rw [if_pos c13] at hf
    refine lv_iconst (pc := 42) (v := nI 0) hx hb dX1_answers_42 rfl ?_
    exact g_zret (pc := 43) hx hb hr hlk hH hS hkc hks hf dX1_answers_43
theorem mX1_answers {l : Launch} {G : gG} {Rp : gM → gM → Nat → Prop} (hk : rOK Rp) (hJ : JDK l G Rp) {S S2 : gS} {r2 : Int32} {C N : Nat} {l0 : Nat} {l1 : Int32} (hf : fX1_answers G l0 l1 S = some (r2, S2, C, N)) : gMet l yX1_answers cX1_answers 4 (some .boolean) 18 3300 G Rp [.ref l0, .int l1] S (some (.int r2)) S2 C N := by
  refine g_startN (by decide) (Nat.le_of_ble_eq_true rfl) (fun p e s m args below meth c ls hnd hc hl hH => ?_)
  have hl : lv_has ls 4 [(0, .ref l0), (1, .int l1)] := hl
  exact wX1_answers_b0 hk hJ hc hnd l0 l1 S _ _ ls 0 0 C N (by omega) (by omega) hH va_S.rf (lv_sub hl [0, 1] rfl) hf
end
section
variable {r : Int32} {Sf : gS}
def fX1_acts_b155 (G : gG) (t0 : Nat) (t1 : Int32) (S : gS) : gO Int32 :=
  bd (chk S t0 1) fun _ =>
  gb (fX1_answers G t0 t1 S) fun v1 S1 =>
  if v1 = 0 then
    zg (nI 0) S1
  else
    zg (nI 1) S1
theorem wX1_acts_b155 (hk : rOK Rp) (hJ : JDK l G Rp) (hc : gC p s m args meth c G RX1 "acts" cX1_acts 5 (some .boolean)) (t0 : Nat) (t1 : Int32) (S : gS) (H : Heap) (locs : List Loc) (ls : Array Slot) (kc ks C N : Nat) (hkc : kc + C ≤ mc) (hks : ks + N ≤ ms) (hH : hp G Rp S H) (hS : va_S G.2.2.2 s.heap H locs) (hl : lv_has ls 5 []) (hf : fX1_acts_b155 G t0 t1 S = some (r, Sf, C, N)) : W p l e (gR 20 3323 mc ms) s m args below meth c H locs kc ks (gQ below G Rp (some (.int r)) Sf args s mc ms) (F0 m 155 ls [.int t1, .ref t0]) := by
  obtain ⟨hx, hb, hr, hlk, hml, hown, hts, hE, hA, hnm⟩ := hc
  have hc : gC p s m args meth c G RX1 "acts" cX1_acts 5 (some .boolean) := ⟨hx, hb, hr, hlk, hml, hown, hts, hE, hA, hnm⟩
  unfold fX1_acts_b155 at hf
  obtain ⟨_, ek1, hf⟩ := bdo hf
  obtain ⟨v1, S1, c1, n1, c2_1, n2_1, e1, hf, hC1, hN1⟩ := gbo hf
  refine g_callV (pc := 155) (o := (some t0)) (b := t0) (As := [.int t1]) (rest := []) (st1 := [.int v1]) hc (mX1_answers hk hJ (l0 := t0) (l1 := t1) e1) (cwV 1 hts (lw_V q2790 q2792 qs47 q98 q2793) rfl rfl rfl hdX1_answers ⟨Nat.le_of_ble_eq_true rfl, Nat.le_of_ble_eq_true rfl⟩) (g_recv hE hk hH (ci := 1) (q := (RX1, TX1, 7)) rfl (chk_o ek1).choose_spec) rfl rfl hl.1 rfl rfl (lv_room (Nat.le_of_ble_eq_true rfl)) dX1_acts_155 hH hS (by omega) (by omega) (fun H locs hH hS => ?_)
  have hkc : kc + c1 + c2_1 ≤ mc := by omega
  have hks : ks + n1 + n2_1 ≤ ms := by omega
  refine lv_if_eq (pc := 158) (tgt := 165) hx hb dX1_acts_158 (by decide) (fun c2 => ?_) (fun c2 => ?_)
  · rw [if_pos c2] at hf
    refine lv_iconst (pc := 165) (v := nI 0) hx hb dX1_acts_165 rfl ?_
    exact g_zret (pc := 166) hx hb hr hlk hH hS hkc hks hf dX1_acts_166
  · rw [if_neg c2] at hf
    refine lv_iconst (pc := 161) (v := nI 1) hx hb dX1_acts_161 rfl ?_
    refine lv_goto (pc := 162) (tgt := 166) hx hb dX1_acts_162 (by decide) ?_
    exact g_zret (pc := 166) hx hb hr hlk hH hS hkc hks hf dX1_acts_166
def fX1_acts_b37 (G : gG) (l0 : Nat) (t0 : Int32) (S : gS) : gO Int32 :=
  if t0 = 0 then
    zg t0 S
  else
    bd (chk S l0 1) fun _ =>
    gb (fX1_draw l0 (nI 8) S) fun v2 S2 =>
    bd (chk S2 l0 1) fun _ =>
    gb (fX1_draw l0 (nI 4) S2) fun v3 S3 =>
    nwa S3 0 (nI 3) fun S4 =>
    bd (wrAi S4 S3.2 (nI 0) v2) fun S5 =>
    bd (wrAi S5 S3.2 (nI 1) v3) fun S6 =>
    bd (chk S6 l0 1) fun _ =>
    gb (fX1_draw l0 (nI 100) S6) fun v7 S7 =>
    bd (wrAi S7 S3.2 (nI 2) v7) fun S8 =>
    bd (chk S8 l0 1) fun _ =>
    gb (fX1_publishes G l0 (some S3.2) S8) fun v9 S9 =>
    zg t0 S9
theorem wX1_acts_b37 (hk : rOK Rp) (hJ : JDK l G Rp) (hc : gC p s m args meth c G RX1 "acts" cX1_acts 5 (some .boolean)) (l0 : Nat) (t0 : Int32) (S : gS) (H : Heap) (locs : List Loc) (ls : Array Slot) (kc ks C N : Nat) (hkc : kc + C ≤ mc) (hks : ks + N ≤ ms) (hH : hp G Rp S H) (hS : va_S G.2.2.2 s.heap H locs) (hl : lv_has ls 5 [(0, .ref l0)]) (hf : fX1_acts_b37 G l0 t0 S = some (r, Sf, C, N)) : W p l e (gR 20 3323 mc ms) s m args below meth c H locs kc ks (gQ below G Rp (some (.int r)) Sf args s mc ms) (F0 m 37 ls [.int t0]) := by
  obtain ⟨hx, hb, hr, hlk, hml, hown, hts, hE, hA, hnm⟩ := hc
  have hc : gC p s m args meth c G RX1 "acts" cX1_acts 5 (some .boolean) := ⟨hx, hb, hr, hlk, hml, hown, hts, hE, hA, hnm⟩
  unfold fX1_acts_b37 at hf
  refine lv_istore_n (pc := 37) (i := 2) (lv' := [(2, .int t0), (0, .ref l0)]) hx hb dX1_acts_37 rfl hl (by decide) rfl (fun ls hl => ?_)
  refine lv_iload_n (pc := 38) hx hb dX1_acts_38 rfl (lv_at hl 0 rfl) ?_
  refine lv_if_eq (pc := 39) (tgt := 82) hx hb dX1_acts_39 (by decide) (fun c1 => ?_) (fun c1 => ?_)
  · rw [if_pos c1] at hf
    refine lv_iload_n (pc := 82) hx hb dX1_acts_82 rfl (lv_at hl 0 rfl) ?_
    exact g_zret (pc := 83) hx hb hr hlk hH hS hkc hks hf dX1_acts_83
  · rw [if_neg c1] at hf
    refine lv_aload_n (pc := 42) hx hb dX1_acts_42 rfl (lv_at hl 1 rfl) ?_
    refine lv_bipush (pc := 43) (v := nI 8) hx hb dX1_acts_43 gkb8 ?_
    obtain ⟨_, ek2, hf⟩ := bdo hf
    obtain ⟨v2, S2, c2, n2, c2_2, n2_2, e2, hf, hC2, hN2⟩ := gbo hf
    refine g_callV (pc := 45) (o := (some l0)) (b := l0) (As := [.int (nI 8)]) (rest := []) (st1 := [.int v2]) hc (mX1_draw hk hJ (l0 := l0) (l1 := (nI 8)) e2) (cwV 1 hts (lw_V q2779 q2780 q2781 q98 q2782) rfl rfl rfl hdX1_draw ⟨Nat.le_of_ble_eq_true rfl, Nat.le_of_ble_eq_true rfl⟩) (g_recv hE hk hH (ci := 1) (q := (RX1, TX1, 7)) rfl (chk_o ek2).choose_spec) rfl rfl hl.1 rfl rfl (lv_room (Nat.le_of_ble_eq_true rfl)) dX1_acts_45 hH hS (by omega) (by omega) (fun H locs hH hS => ?_)
    have hkc : kc + c2 + c2_2 ≤ mc := by omega
    have hks : ks + n2 + n2_2 ≤ ms := by omega
    refine lv_istore_n (pc := 48) (i := 3) (lv' := [(3, .int v2), (2, .int t0), (0, .ref l0)]) hx hb dX1_acts_48 rfl hl (by decide) rfl (fun ls hl => ?_)
    refine lv_aload_n (pc := 49) hx hb dX1_acts_49 rfl (lv_at hl 2 rfl) ?_
    refine lv_iconst (pc := 50) (v := nI 4) hx hb dX1_acts_50 rfl ?_
    obtain ⟨_, ek3, hf⟩ := bdo hf
    obtain ⟨v3, S3, c3, n3, c2_3, n2_3, e3, hf, hC3, hN3⟩ := gbo hf
    refine g_callV (pc := 51) (o := (some l0)) (b := l0) (As := [.int (nI 4)]) (rest := []) (st1 := [.int v3]) hc (mX1_draw hk hJ (l0 := l0) (l1 := (nI 4)) e3) (cwV 1 hts (lw_V q2779 q2780 q2781 q98 q2782) rfl rfl rfl hdX1_draw ⟨Nat.le_of_ble_eq_true rfl, Nat.le_of_ble_eq_true rfl⟩) (g_recv hE hk hH (ci := 1) (q := (RX1, TX1, 7)) rfl (chk_o ek3).choose_spec) rfl rfl hl.1 rfl rfl (lv_room (Nat.le_of_ble_eq_true rfl)) dX1_acts_51 hH hS (by omega) (by omega) (fun H locs hH hS => ?_)
    have hkc : kc + c2 + c3 + c2_3 ≤ mc := by omega
    have hks : ks + n2 + n3 + n2_3 ≤ ms := by omega
    refine lv_istore (pc := 54) (i := 4) (lv' := [(4, .int v3), (3, .int v2), (2, .int t0), (0, .ref l0)]) hx hb dX1_acts_54 hl (by decide) rfl (fun ls hl => ?_)
    refine lv_aload_n (pc := 56) hx hb dX1_acts_56 rfl (lv_at hl 3 rfl) ?_
    refine lv_iconst (pc := 57) (v := nI 3) hx hb dX1_acts_57 rfl ?_
    obtain ⟨hn4, hi4, S4, c2_4, n2_4, eS4, hf, hC4, hN4⟩ := nwao hf
    refine g_newa (pc := 58) (atype := .int) (ty := .int) (t := 0) hx hb hts hE hA hk hH hS q271 rfl rfl rfl (fun _ h => by cases h) hn4 hi4 eS4 (by decide) (Nat.le_trans (by omega) hkc) (Nat.le_trans (by omega) hks) dX1_acts_58 (fun H hH hS => ?_)
    have hkc : kc + c2 + c3 + 1 + c2_4 ≤ mc := by omega
    have hks : ks + n2 + n3 + (nI 3).toNatClampNeg + n2_4 ≤ ms := by omega
    refine lv_dup (pc := 60) hx hb dX1_acts_60 rfl ?_
    refine lv_iconst (pc := 61) (v := nI 0) hx hb dX1_acts_61 rfl ?_
    refine lv_iload_n (pc := 62) hx hb dX1_acts_62 rfl (lv_at hl 1 rfl) ?_
    obtain ⟨S5, e5, hf⟩ := bdo hf
    refine g_iast (pc := 63) (o := (some S3.2)) (a := S3.2) hx hb hE hk hH hS rfl e5 dX1_acts_63 (fun H locs hH hS => ?_)
    refine lv_dup (pc := 64) hx hb dX1_acts_64 rfl ?_
    refine lv_iconst (pc := 65) (v := nI 1) hx hb dX1_acts_65 rfl ?_
    refine lv_iload (pc := 66) hx hb dX1_acts_66 (lv_at hl 0 rfl) ?_
    obtain ⟨S6, e6, hf⟩ := bdo hf
    refine g_iast (pc := 68) (o := (some S3.2)) (a := S3.2) hx hb hE hk hH hS rfl e6 dX1_acts_68 (fun H locs hH hS => ?_)
    refine lv_dup (pc := 69) hx hb dX1_acts_69 rfl ?_
    refine lv_iconst (pc := 70) (v := nI 2) hx hb dX1_acts_70 rfl ?_
    refine lv_aload_n (pc := 71) hx hb dX1_acts_71 rfl (lv_at hl 3 rfl) ?_
    refine lv_bipush (pc := 72) (v := nI 100) hx hb dX1_acts_72 gkb100 ?_
    obtain ⟨_, ek7, hf⟩ := bdo hf
    obtain ⟨v7, S7, c7, n7, c2_7, n2_7, e7, hf, hC7, hN7⟩ := gbo hf
    refine g_callV (pc := 74) (o := (some l0)) (b := l0) (As := [.int (nI 100)]) (rest := [.int (nI 2), .ref S3.2, .ref S3.2, .ref l0]) (st1 := [.int v7, .int (nI 2), .ref S3.2, .ref S3.2, .ref l0]) hc (mX1_draw hk hJ (l0 := l0) (l1 := (nI 100)) e7) (cwV 1 hts (lw_V q2779 q2780 q2781 q98 q2782) rfl rfl rfl hdX1_draw ⟨Nat.le_of_ble_eq_true rfl, Nat.le_of_ble_eq_true rfl⟩) (g_recv hE hk hH (ci := 1) (q := (RX1, TX1, 7)) rfl (chk_o ek7).choose_spec) rfl rfl hl.1 rfl rfl (lv_room (Nat.le_of_ble_eq_true rfl)) dX1_acts_74 hH hS (by omega) (by omega) (fun H locs hH hS => ?_)
    have hkc : kc + c2 + c3 + 1 + c7 + c2_7 ≤ mc := by omega
    have hks : ks + n2 + n3 + (nI 3).toNatClampNeg + n7 + n2_7 ≤ ms := by omega
    obtain ⟨S8, e8, hf⟩ := bdo hf
    refine g_iast (pc := 77) (o := (some S3.2)) (a := S3.2) hx hb hE hk hH hS rfl e8 dX1_acts_77 (fun H locs hH hS => ?_)
    obtain ⟨_, ek9, hf⟩ := bdo hf
    obtain ⟨v9, S9, c9, n9, c2_9, n2_9, e9, hf, hC9, hN9⟩ := gbo hf
    refine g_callV (pc := 78) (o := (some l0)) (b := l0) (As := [.ref S3.2]) (rest := []) (st1 := [.int v9]) hc (mX1_publishes hk hJ (l0 := l0) (l1 := (some S3.2)) e9) (cwV 1 hts (lw_V q2784 q1534 q1535 q98 q1536) rfl rfl rfl hdX1_publishes ⟨Nat.le_of_ble_eq_true rfl, Nat.le_of_ble_eq_true rfl⟩) (g_recv hE hk hH (ci := 1) (q := (RX1, TX1, 7)) rfl (chk_o ek9).choose_spec) rfl rfl hl.1 rfl rfl (lv_room (Nat.le_of_ble_eq_true rfl)) dX1_acts_78 hH hS (by omega) (by omega) (fun H locs hH hS => ?_)
    have hkc : kc + c2 + c3 + 1 + c7 + c9 + c2_9 ≤ mc := by omega
    have hks : ks + n2 + n3 + (nI 3).toNatClampNeg + n7 + n9 + n2_9 ≤ ms := by omega
    refine lv_pop (pc := 81) hx hb dX1_acts_81 rfl ?_
    refine lv_iload_n (pc := 82) hx hb dX1_acts_82 rfl (lv_at hl 2 rfl) ?_
    exact g_zret (pc := 83) hx hb hr hlk hH hS hkc hks hf dX1_acts_83
def fX1_acts_b36 (G : gG) (l0 : Nat) (S : gS) : gO Int32 :=
  fX1_acts_b37 G l0 (nI 0) S
theorem wX1_acts_b36 (hk : rOK Rp) (hJ : JDK l G Rp) (hc : gC p s m args meth c G RX1 "acts" cX1_acts 5 (some .boolean)) (l0 : Nat) (S : gS) (H : Heap) (locs : List Loc) (ls : Array Slot) (kc ks C N : Nat) (hkc : kc + C ≤ mc) (hks : ks + N ≤ ms) (hH : hp G Rp S H) (hS : va_S G.2.2.2 s.heap H locs) (hl : lv_has ls 5 [(0, .ref l0)]) (hf : fX1_acts_b36 G l0 S = some (r, Sf, C, N)) : W p l e (gR 20 3323 mc ms) s m args below meth c H locs kc ks (gQ below G Rp (some (.int r)) Sf args s mc ms) (F0 m 36 ls []) := by
  obtain ⟨hx, hb, hr, hlk, hml, hown, hts, hE, hA, hnm⟩ := hc
  have hc : gC p s m args meth c G RX1 "acts" cX1_acts 5 (some .boolean) := ⟨hx, hb, hr, hlk, hml, hown, hts, hE, hA, hnm⟩
  unfold fX1_acts_b36 at hf
  refine lv_iconst (pc := 36) (v := nI 0) hx hb dX1_acts_36 rfl ?_
  exact wX1_acts_b37 hk hJ hc l0 (nI 0) S _ _ ls _ _ _ _ hkc hks hH hS (lv_sub hl [0] rfl) hf
def fX1_acts (G : gG) (l0 : Nat) (S : gS) : gO Int32 :=
  bd (chk S l0 1) fun _ =>
  gb (fX1_draw l0 (nI 6) S) fun v1 S1 =>
  if (nI 2) ≤ v1 then
    if (nI 4) ≤ v1 then
      bd (rdR S1 l0 1 1) fun v4 =>
      bd v4 fun a6 =>
      gb (nAL_isEmpty a6  S1) fun v5 S5 =>
      if v5 = 0 then
        if v1 = (nI 5) then
          fX1_acts_b155 G l0 (nI 1) S5
        else
          fX1_acts_b155 G l0 (nI 0) S5
      else
        zg (nI 0) S5
    else
      bd (rdR S1 l0 1 0) fun v9 =>
      bd v9 fun a11 =>
      gb (nAL_isEmpty a11  S1) fun v10 S10 =>
      if v10 = 0 then
        bd (rdR S10 l0 1 0) fun v13 =>
        bd (rdR S10 l0 1 0) fun v14 =>
        bd v14 fun a16 =>
        gb (nAL_size a16  S10) fun v15 S15 =>
        bd (chk S15 l0 1) fun _ =>
        gb (fX1_draw l0 v15 S15) fun v17 S17 =>
        bd v13 fun a19 =>
        gb (nAL_get a19 v17 S17) fun v18 S18 =>
        bd (ckc S18 v18 3) fun _ =>
        bd (chk S18 l0 1) fun _ =>
        gb (fX1_gives l0 v18 S18) fun v21 S21 =>
        if v21 = (-1) then
          zg (nI 0) S21
        else
          zg (nI 1) S21
      else
        zg (nI 0) S10
  else
    bd (rdR S1 l0 1 4) fun v23 =>
    if v23 = none then
      fX1_acts_b36 G l0 S1
    else
      bd (rdR S1 l0 1 2) fun v25 =>
      bd v25 fun a27 =>
      gb (nAL_size a27  S1) fun v26 S26 =>
      if (nI 300) ≤ v26 then
        fX1_acts_b36 G l0 S26
      else
        fX1_acts_b37 G l0 (nI 1) S26
theorem wX1_acts_b0 (hk : rOK Rp) (hJ : JDK l G Rp) (hc : gC p s m args meth c G RX1 "acts" cX1_acts 5 (some .boolean)) (l0 : Nat) (S : gS) (H : Heap) (locs : List Loc) (ls : Array Slot) (kc ks C N : Nat) (hkc : kc + C ≤ mc) (hks : ks + N ≤ ms) (hH : hp G Rp S H) (hS : va_S G.2.2.2 s.heap H locs) (hl : lv_has ls 5 [(0, .ref l0)]) (hf : fX1_acts G l0 S = some (r, Sf, C, N)) : W p l e (gR 20 3323 mc ms) s m args below meth c H locs kc ks (gQ below G Rp (some (.int r)) Sf args s mc ms) (F0 m 0 ls []) := by
  obtain ⟨hx, hb, hr, hlk, hml, hown, hts, hE, hA, hnm⟩ := hc
  have hc : gC p s m args meth c G RX1 "acts" cX1_acts 5 (some .boolean) := ⟨hx, hb, hr, hlk, hml, hown, hts, hE, hA, hnm⟩
  unfold fX1_acts at hf
  refine lv_aload_n (pc := 0) hx hb dX1_acts_0 rfl (lv_at hl 0 rfl) ?_
  refine lv_bipush (pc := 1) (v := nI 6) hx hb dX1_acts_1 gkb6 ?_
  obtain ⟨_, ek1, hf⟩ := bdo hf
  obtain ⟨v1, S1, c1, n1, c2_1, n2_1, e1, hf, hC1, hN1⟩ := gbo hf
  refine g_callV (pc := 3) (o := (some l0)) (b := l0) (As := [.int (nI 6)]) (rest := []) (st1 := [.int v1]) hc (mX1_draw hk hJ (l0 := l0) (l1 := (nI 6)) e1) (cwV 1 hts (lw_V q2779 q2780 q2781 q98 q2782) rfl rfl rfl hdX1_draw ⟨Nat.le_of_ble_eq_true rfl, Nat.le_of_ble_eq_true rfl⟩) (g_recv hE hk hH (ci := 1) (q := (RX1, TX1, 7)) rfl (chk_o ek1).choose_spec) rfl rfl hl.1 rfl rfl (lv_room (Nat.le_of_ble_eq_true rfl)) dX1_acts_3 hH hS (by omega) (by omega) (fun H locs hH hS => ?_)
  have hkc : kc + c1 + c2_1 ≤ mc := by omega
  have hks : ks + n1 + n2_1 ≤ ms := by omega
  refine lv_istore_n (pc := 6) (i := 1) (lv' := [(1, .int v1), (0, .ref l0)]) hx hb dX1_acts_6 rfl hl (by decide) rfl (fun ls hl => ?_)
  refine lv_iload_n (pc := 7) hx hb dX1_acts_7 rfl (lv_at hl 0 rfl) ?_
  refine lv_iconst (pc := 8) (v := nI 2) hx hb dX1_acts_8 rfl ?_
  refine lv_icmp_ge (pc := 9) (tgt := 84) hx hb dX1_acts_9 (by decide) (fun c2 => ?_) (fun c2 => ?_)
  · rw [if_pos c2] at hf
    refine lv_iload_n (pc := 84) hx hb dX1_acts_84 rfl (lv_at hl 0 rfl) ?_
    refine lv_iconst (pc := 85) (v := nI 4) hx hb dX1_acts_85 rfl ?_
    refine lv_icmp_ge (pc := 86) (tgt := 134) hx hb dX1_acts_86 (by decide) (fun c3 => ?_) (fun c3 => ?_)
    · rw [if_pos c3] at hf
      refine lv_aload_n (pc := 134) hx hb dX1_acts_134 rfl (lv_at hl 1 rfl) ?_
      obtain ⟨v4, e4, hf⟩ := bdo hf
      refine g_get (pc := 135) (o := (some l0)) (a := l0) (ci := 1) (k := 1) (v := va_rf v4) (C := RX1) (T := TX1) (N := 7) hx hb hts hown hE hk hH in_X1 rfl (by decide) (hts _ q233) (fun _ h9 => h9) rfl (rdR_o e4) dX1_acts_135 ?_
      obtain ⟨a6, ea6, hf⟩ := bdo hf
      obtain ⟨v5, S5, c5, n5, c2_5, n2_5, e5, hf, hC5, hN5⟩ := gbo hf
      refine g_callV (pc := 138) (o := v4) (b := a6) (As := []) (rest := []) (st1 := [.int v5]) hc (j_nAL_isEmpty hJ a6  S1 v5 S5 c5 n5 e5) (cwV 0 hts (lw_V q2785 q2786 q2787 q101 q2788) rfl rfl rfl hdJ2_isEmpty ⟨Nat.le_of_ble_eq_true rfl, Nat.le_of_ble_eq_true rfl⟩) (j_recv hJ _ _ _ _ 0 _ _ hE hH hS (adtR (t := 0) (show bd _ _ = some _ from e5)).choose_spec) ea6 rfl hl.1 rfl rfl (lv_room (Nat.le_of_ble_eq_true rfl)) dX1_acts_138 hH hS (by omega) (by omega) (fun H locs hH hS => ?_)
      have hkc : kc + c1 + c5 + c2_5 ≤ mc := by omega
      have hks : ks + n1 + n5 + n2_5 ≤ ms := by omega
      refine lv_if_ne (pc := 141) (tgt := 165) hx hb dX1_acts_141 (by decide) (fun c7 => ?_) (fun c7 => ?_)
      · rw [if_neg c7] at hf
        refine lv_iconst (pc := 165) (v := nI 0) hx hb dX1_acts_165 rfl ?_
        exact g_zret (pc := 166) hx hb hr hlk hH hS hkc hks hf dX1_acts_166
      · rw [if_pos c7] at hf
        refine lv_aload_n (pc := 144) hx hb dX1_acts_144 rfl (lv_at hl 1 rfl) ?_
        refine lv_iload_n (pc := 145) hx hb dX1_acts_145 rfl (lv_at hl 0 rfl) ?_
        refine lv_iconst (pc := 146) (v := nI 5) hx hb dX1_acts_146 rfl ?_
        refine lv_icmp_ne (pc := 147) (tgt := 154) hx hb dX1_acts_147 (by decide) (fun c8 => ?_) (fun c8 => ?_)
        · rw [if_neg c8] at hf
          refine lv_iconst (pc := 154) (v := nI 0) hx hb dX1_acts_154 rfl ?_
          exact wX1_acts_b155 hk hJ hc l0 (nI 0) S5 _ _ ls _ _ _ _ hkc hks hH hS (lv_sub hl [] rfl) hf
        · rw [if_pos c8] at hf
          refine lv_iconst (pc := 150) (v := nI 1) hx hb dX1_acts_150 rfl ?_
          refine lv_goto (pc := 151) (tgt := 155) hx hb dX1_acts_151 (by decide) ?_
          exact wX1_acts_b155 hk hJ hc l0 (nI 1) S5 _ _ ls _ _ _ _ hkc hks hH hS (lv_sub hl [] rfl) hf
    · rw [if_neg c3] at hf
      refine lv_aload_n (pc := 89) hx hb dX1_acts_89 rfl (lv_at hl 1 rfl) ?_
      obtain ⟨v9, e9, hf⟩ := bdo hf
      refine g_get (pc := 90) (o := (some l0)) (a := l0) (ci := 1) (k := 0) (v := va_rf v9) (C := RX1) (T := TX1) (N := 7) hx hb hts hown hE hk hH in_X1 rfl (by decide) (hts _ q231) (fun _ h9 => h9) rfl (rdR_o e9) dX1_acts_90 ?_
      obtain ⟨a11, ea11, hf⟩ := bdo hf
      obtain ⟨v10, S10, c10, n10, c2_10, n2_10, e10, hf, hC10, hN10⟩ := gbo hf
      refine g_callV (pc := 93) (o := v9) (b := a11) (As := []) (rest := []) (st1 := [.int v10]) hc (j_nAL_isEmpty hJ a11  S1 v10 S10 c10 n10 e10) (cwV 0 hts (lw_V q2785 q2786 q2787 q101 q2788) rfl rfl rfl hdJ2_isEmpty ⟨Nat.le_of_ble_eq_true rfl, Nat.le_of_ble_eq_true rfl⟩) (j_recv hJ _ _ _ _ 0 _ _ hE hH hS (adtR (t := 0) (show bd _ _ = some _ from e10)).choose_spec) ea11 rfl hl.1 rfl rfl (lv_room (Nat.le_of_ble_eq_true rfl)) dX1_acts_93 hH hS (by omega) (by omega) (fun H locs hH hS => ?_)
      have hkc : kc + c1 + c10 + c2_10 ≤ mc := by omega
      have hks : ks + n1 + n10 + n2_10 ≤ ms := by omega
      refine lv_if_ne (pc := 96) (tgt := 132) hx hb dX1_acts_96 (by decide) (fun c12 => ?_) (fun c12 => ?_)
      · rw [if_neg c12] at hf
        refine lv_iconst (pc := 132) (v := nI 0) hx hb dX1_acts_132 rfl ?_
        exact g_zret (pc := 133) hx hb hr hlk hH hS hkc hks hf dX1_acts_133
      · rw [if_pos c12] at hf
        refine lv_aload_n (pc := 99) hx hb dX1_acts_99 rfl (lv_at hl 1 rfl) ?_
        refine lv_aload_n (pc := 100) hx hb dX1_acts_100 rfl (lv_at hl 1 rfl) ?_
        obtain ⟨v13, e13, hf⟩ := bdo hf
        refine g_get (pc := 101) (o := (some l0)) (a := l0) (ci := 1) (k := 0) (v := va_rf v13) (C := RX1) (T := TX1) (N := 7) hx hb hts hown hE hk hH in_X1 rfl (by decide) (hts _ q231) (fun _ h9 => h9) rfl (rdR_o e13) dX1_acts_101 ?_
        refine lv_aload_n (pc := 104) hx hb dX1_acts_104 rfl (lv_at hl 1 rfl) ?_
        refine lv_aload_n (pc := 105) hx hb dX1_acts_105 rfl (lv_at hl 1 rfl) ?_
        obtain ⟨v14, e14, hf⟩ := bdo hf
        refine g_get (pc := 106) (o := (some l0)) (a := l0) (ci := 1) (k := 0) (v := va_rf v14) (C := RX1) (T := TX1) (N := 7) hx hb hts hown hE hk hH in_X1 rfl (by decide) (hts _ q231) (fun _ h9 => h9) rfl (rdR_o e14) dX1_acts_106 ?_
        obtain ⟨a16, ea16, hf⟩ := bdo hf
        obtain ⟨v15, S15, c15, n15, c2_15, n2_15, e15, hf, hC15, hN15⟩ := gbo hf
        refine g_callV (pc := 109) (o := v14) (b := a16) (As := []) (rest := [.ref l0, va_rf v13, .ref l0]) (st1 := [.int v15, .ref l0, va_rf v13, .ref l0]) hc (j_nAL_size hJ a16  S10 v15 S15 c15 n15 e15) (cwV 0 hts (lw_V q1539 q1120 q1121 q101 q1122) rfl rfl rfl hdJ2_size ⟨Nat.le_of_ble_eq_true rfl, Nat.le_of_ble_eq_true rfl⟩) (j_recv hJ _ _ _ _ 0 _ _ hE hH hS (adtR (t := 0) (show bd _ _ = some _ from e15)).choose_spec) ea16 rfl hl.1 rfl rfl (lv_room (by simp [va_rf_cat, cat_i, cat_j, cat_r])) dX1_acts_109 hH hS (by omega) (by omega) (fun H locs hH hS => ?_)
        have hkc : kc + c1 + c10 + c15 + c2_15 ≤ mc := by omega
        have hks : ks + n1 + n10 + n15 + n2_15 ≤ ms := by omega
        obtain ⟨_, ek17, hf⟩ := bdo hf
        obtain ⟨v17, S17, c17, n17, c2_17, n2_17, e17, hf, hC17, hN17⟩ := gbo hf
        refine g_callV (pc := 112) (o := (some l0)) (b := l0) (As := [.int v15]) (rest := [va_rf v13, .ref l0]) (st1 := [.int v17, va_rf v13, .ref l0]) hc (mX1_draw hk hJ (l0 := l0) (l1 := v15) e17) (cwV 1 hts (lw_V q2779 q2780 q2781 q98 q2782) rfl rfl rfl hdX1_draw ⟨Nat.le_of_ble_eq_true rfl, Nat.le_of_ble_eq_true rfl⟩) (g_recv hE hk hH (ci := 1) (q := (RX1, TX1, 7)) rfl (chk_o ek17).choose_spec) rfl rfl hl.1 rfl rfl (lv_room (by simp [va_rf_cat, cat_i, cat_j, cat_r])) dX1_acts_112 hH hS (by omega) (by omega) (fun H locs hH hS => ?_)
        have hkc : kc + c1 + c10 + c15 + c17 + c2_17 ≤ mc := by omega
        have hks : ks + n1 + n10 + n15 + n17 + n2_17 ≤ ms := by omega
        obtain ⟨a19, ea19, hf⟩ := bdo hf
        obtain ⟨v18, S18, c18, n18, c2_18, n2_18, e18, hf, hC18, hN18⟩ := gbo hf
        refine g_callV (pc := 115) (o := v13) (b := a19) (As := [.int v17]) (rest := [.ref l0]) (st1 := [va_rf v18, .ref l0]) hc (j_nAL_get hJ a19 v17 S17 v18 S18 c18 n18 e18) (cwV 1 hts (lw_V q1290 q1223 q1224 q101 q1225) rfl rfl rfl hdJ2_get ⟨Nat.le_of_ble_eq_true rfl, Nat.le_of_ble_eq_true rfl⟩) (j_recv hJ _ _ _ _ 0 _ _ hE hH hS (adtR (t := 0) (show bd _ _ = some _ from e18)).choose_spec) ea19 rfl hl.1 rfl rfl (lv_room (Nat.le_of_ble_eq_true rfl)) dX1_acts_115 hH hS (by omega) (by omega) (fun H locs hH hS => ?_)
        have hkc : kc + c1 + c10 + c15 + c17 + c18 + c2_18 ≤ mc := by omega
        have hks : ks + n1 + n10 + n15 + n17 + n18 + n2_18 ≤ ms := by omega
        obtain ⟨_, e20, hf⟩ := bdo hf
        refine g_cast (pc := 118) (o := v18) (ci := 3) (C := RX8) (T := TX8) (N := 13) hx hb hts hown hE hk hH rfl q1291 e20 dX1_acts_118 ?_
        obtain ⟨_, ek21, hf⟩ := bdo hf
        obtain ⟨v21, S21, c21, n21, c2_21, n2_21, e21, hf, hC21, hN21⟩ := gbo hf
        refine g_callV (pc := 121) (o := (some l0)) (b := l0) (As := [va_rf v18]) (rest := []) (st1 := [.int v21]) hc (mX1_gives hk hJ (l0 := l0) (l1 := v18) e21) (cwV 1 hts (lw_V q2789 q1750 q1751 q98 q1752) rfl rfl rfl hdX1_gives ⟨Nat.le_of_ble_eq_true rfl, Nat.le_of_ble_eq_true rfl⟩) (g_recv hE hk hH (ci := 1) (q := (RX1, TX1, 7)) rfl (chk_o ek21).choose_spec) rfl rfl hl.1 rfl rfl (lv_room (Nat.le_of_ble_eq_true rfl)) dX1_acts_121 hH hS (by omega) (by omega) (fun H locs hH hS => ?_)
        have hkc : kc + c1 + c10 + c15 + c17 + c18 + c21 + c2_21 ≤ mc := by omega
        have hks : ks + n1 + n10 + n15 + n17 + n18 + n21 + n2_21 ≤ ms := by omega
        refine lv_iconst (pc := 124) (v := -1) hx hb dX1_acts_124 rfl ?_
        refine lv_icmp_eq (pc := 125) (tgt := 132) hx hb dX1_acts_125 (by decide) (fun c22 => ?_) (fun c22 => ?_)
        · rw [if_pos c22] at hf
          refine lv_iconst (pc := 132) (v := nI 0) hx hb dX1_acts_132 rfl ?_
          exact g_zret (pc := 133) hx hb hr hlk hH hS hkc hks hf dX1_acts_133
        · rw [if_neg c22] at hf
          refine lv_iconst (pc := 128) (v := nI 1) hx hb dX1_acts_128 rfl ?_
          refine lv_goto (pc := 129) (tgt := 133) hx hb dX1_acts_129 (by decide) ?_
          exact g_zret (pc := 133) hx hb hr hlk hH hS hkc hks hf dX1_acts_133
  · rw [if_neg c2] at hf
    refine lv_aload_n (pc := 12) hx hb dX1_acts_12 rfl (lv_at hl 1 rfl) ?_
    obtain ⟨v23, e23, hf⟩ := bdo hf
    refine g_get (pc := 13) (o := (some l0)) (a := l0) (ci := 1) (k := 4) (v := va_rf v23) (C := RX1) (T := TX1) (N := 7) hx hb hts hown hE hk hH in_X1 rfl (by decide) (hts _ q239) (fun _ h9 => h9) rfl (rdR_o e23) dX1_acts_13 ?_
    refine g_ifnull (pc := 16) (o := v23) (tgt := 36) hx hb dX1_acts_16 (by decide) (fun c24 => ?_) (fun c24 => ?_)
    · rw [if_pos c24] at hf
      exact wX1_acts_b36 hk hJ hc l0 S1 _ _ ls _ _ _ _ hkc hks hH hS (lv_sub hl [1] rfl) hf
    · rw [if_neg c24] at hf
      refine lv_aload_n (pc := 19) hx hb dX1_acts_19 rfl (lv_at hl 1 rfl) ?_
      obtain ⟨v25, e25, hf⟩ := bdo hf
      refine g_get (pc := 20) (o := (some l0)) (a := l0) (ci := 1) (k := 2) (v := va_rf v25) (C := RX1) (T := TX1) (N := 7) hx hb hts hown hE hk hH in_X1 rfl (by decide) (hts _ q235) (fun _ h9 => h9) rfl (rdR_o e25) dX1_acts_20 ?_
      obtain ⟨a27, ea27, hf⟩ := bdo hf
      obtain ⟨v26, S26, c26, n26, c2_26, n2_26, e26, hf, hC26, hN26⟩ := gbo hf
      refine g_callV (pc := 23) (o := v25) (b := a27) (As := []) (rest := []) (st1 := [.int v26]) hc (j_nAL_size hJ a27  S1 v26 S26 c26 n26 e26) (cwV 0 hts (lw_V q1539 q1120 q1121 q101 q1122) rfl rfl rfl hdJ2_size ⟨Nat.le_of_ble_eq_true rfl, Nat.le_of_ble_eq_true rfl⟩) (j_recv hJ _ _ _ _ 0 _ _ hE hH hS (adtR (t := 0) (show bd _ _ = some _ from e26)).choose_spec) ea27 rfl hl.1 rfl rfl (lv_room (Nat.le_of_ble_eq_true rfl)) dX1_acts_23 hH hS (by omega) (by omega) (fun H locs hH hS => ?_)
      have hkc : kc + c1 + c26 + c2_26 ≤ mc := by omega
      have hks : ks + n1 + n26 + n2_26 ≤ ms := by omega
      refine lv_sipush (pc := 26) (v := nI 300) hx hb dX1_acts_26 gks300 ?_
      refine lv_icmp_ge (pc := 29) (tgt := 36) hx hb dX1_acts_29 (by decide) (fun c28 => ?_) (fun c28 => ?_)
      · rw [if_pos c28] at hf
        exact wX1_acts_b36 hk hJ hc l0 S26 _ _ ls _ _ _ _ hkc hks hH hS (lv_sub hl [1] rfl) hf
      · rw [if_neg c28] at hf
        refine lv_iconst (pc := 32) (v := nI 1) hx hb dX1_acts_32 rfl ?_
        refine lv_goto (pc := 33) (tgt := 37) hx hb dX1_acts_33 (by decide) ?_
        exact wX1_acts_b37 hk hJ hc l0 (nI 1) S26 _ _ ls _ _ _ _ hkc hks hH hS (lv_sub hl [1] rfl) hf
theorem mX1_acts {l : Launch} {G : gG} {Rp : gM → gM → Nat → Prop} (hk : rOK Rp) (hJ : JDK l G Rp) {S S2 : gS} {r2 : Int32} {C N : Nat} {l0 : Nat} (hf : fX1_acts G l0 S = some (r2, S2, C, N)) : gMet l yX1_acts cX1_acts 5 (some .boolean) 20 3323 G Rp [.ref l0] S (some (.int r2)) S2 C N := by
  refine g_start (by decide) (Nat.le_of_ble_eq_true rfl) (fun p e s m args below meth c ls hc hl hH => ?_)
  have hl : lv_has ls 5 [(0, .ref l0)] := hl
  exact wX1_acts_b0 hk hJ hc l0 S _ _ ls 0 0 C N (by omega) (by omega) hH va_S.rf (lv_sub hl [0] rfl) hf
end
section
variable {r : Unit} {Sf : gS}
def fX12_init_2_c12 (l0 : Nat) (l1 : Int32) (l2 : Option Nat) (l3 : Int32) (S : gS) : gO Unit :=
  bd (wr S l0 12 0 (.int l1)) fun S2 =>
  bd (wr S2 l0 12 1 (va_rf l2)) fun S3 =>
  bd (wr S3 l0 12 2 (.int l3)) fun S4 =>
  some ((), S4, 0, 0)
theorem wX12_init_2_c12_b0 (hk : rOK Rp) (hJ : JDK l G Rp) (hc : gC p s m args meth c G RX12 "<init>" cX12_init_2 4 (none)) (l0 : Nat) (l1 : Int32) (l2 : Option Nat) (l3 : Int32) (S : gS) (H : Heap) (locs : List Loc) (ls : Array Slot) (kc ks C N : Nat) (hkc : kc + C ≤ mc) (hks : ks + N ≤ ms) (hH : hp G Rp S H) (hS : va_S G.2.2.2 s.heap H locs) (hl : lv_has ls 4 [(0, .ref l0), (1, .int l1), (2, va_rf l2), (3, .int l3)]) (hf : fX12_init_2_c12 l0 l1 l2 l3 S = some (r, Sf, C, N)) : W p l e (gR 1 40 mc ms) s m args below meth c H locs kc ks (gQ below G Rp none Sf args s mc ms) (F0 m 0 ls []) := by
  obtain ⟨hx, hb, hr, hlk, hml, hown, hts, hE, hA, hnm⟩ := hc
  have hc : gC p s m args meth c G RX12 "<init>" cX12_init_2 4 (none) := ⟨hx, hb, hr, hlk, hml, hown, hts, hE, hA, hnm⟩
  unfold fX12_init_2_c12 at hf
  refine lv_aload_n (pc := 0) hx hb dX12_init_2_0 rfl (lv_at hl 0 rfl) ?_
  refine W.objInit  hx hb hown (hts _ q1620) (hts _ q169) (hts _ q170) rfl (by rw [hml]; exact hl.1) rfl dX12_init_2_1 (Nat.le_of_ble_eq_true rfl) (Nat.le_of_ble_eq_true rfl) ?_
  refine W.eq (g2 := F0 m 4 ls []) rfl ?_
  refine lv_aload_n (pc := 4) hx hb dX12_init_2_4 rfl (lv_at hl 0 rfl) ?_
  refine lv_iload_n (pc := 5) hx hb dX12_init_2_5 rfl (lv_at hl 1 rfl) ?_
  obtain ⟨S2, e2, hf⟩ := bdo hf
  refine g_putF (pc := 6) (o := (some l0)) (a := l0) (ci := 12) (k := 0) (v := .int l1) (C := RX19) (T := TX19) (N := 5) (ty := .int) hx hb hts hown hE hk hH hS rfl in_X19 tyX19_ok nmX19 rfl (by decide) (hts _ q1623) (fun _ h9 => h9) rfl hnm rfl rfl rfl rfl rfl e2 dX12_init_2_6 (fun H locs hH hS => ?_)
  refine lv_aload_n (pc := 9) hx hb dX12_init_2_9 rfl (lv_at hl 0 rfl) ?_
  refine g_aload_n (pc := 10) (o := l2) hx hb dX12_init_2_10 rfl (lv_at hl 2 rfl) ?_
  obtain ⟨S3, e3, hf⟩ := bdo hf
  refine g_putF (pc := 11) (o := (some l0)) (a := l0) (ci := 12) (k := 1) (v := va_rf l2) (C := RX19) (T := TX19) (N := 5) (ty := .object "CreditBroker$Cause") hx hb hts hown hE hk hH hS rfl in_X19 tyX19_ok nmX19 rfl (by decide) (hts _ q1625) (fun _ h9 => h9) rfl hnm rfl rfl (nar_rf _ _) (fit_rf _ _) rfl e3 dX12_init_2_11 (fun H locs hH hS => ?_)
  refine lv_aload_n (pc := 14) hx hb dX12_init_2_14 rfl (lv_at hl 0 rfl) ?_
  refine lv_iload_n (pc := 15) hx hb dX12_init_2_15 rfl (lv_at hl 3 rfl) ?_
  obtain ⟨S4, e4, hf⟩ := bdo hf
  refine g_putF (pc := 16) (o := (some l0)) (a := l0) (ci := 12) (k := 2) (v := .int l3) (C := RX19) (T := TX19) (N := 5) (ty := .int) hx hb hts hown hE hk hH hS rfl in_X19 tyX19_ok nmX19 rfl (by decide) (hts _ q1628) (fun _ h9 => h9) rfl hnm rfl rfl rfl rfl rfl e4 dX12_init_2_16 (fun H locs hH hS => ?_)
  exact g_vret (pc := 19) hx hb hr hlk hH hS hkc hks hf dX12_init_2_19
theorem mX12_init_2_c12 {l : Launch} {G : gG} {Rp : gM → gM → Nat → Prop} (hk : rOK Rp) (hJ : JDK l G Rp) {S S2 : gS} {r2 : Unit} {C N : Nat} {l0 : Nat} {l1 : Int32} {l2 : Option Nat} {l3 : Int32} (hf : fX12_init_2_c12 l0 l1 l2 l3 S = some (r2, S2, C, N)) : gMet l yX12_init_2 cX12_init_2 4 (none) 1 40 G Rp [.ref l0, .int l1, va_rf l2, .int l3] S none S2 C N := by
  refine g_start (by decide) (by simp [lg_sl, va_rf_cat, cat_i, cat_j, cat_r]) (fun p e s m args below meth c ls hc hl hH => ?_)
  have hl : lv_has ls 4 [(0, .ref l0), (1, .int l1), (2, va_rf l2), (3, .int l3)] := by simpa [lv_args, va_rf_cat, cat_i, cat_j, cat_r] using hl
  exact wX12_init_2_c12_b0 hk hJ hc l0 l1 l2 l3 S _ _ ls 0 0 C N (by omega) (by omega) hH va_S.rf (lv_sub hl [0, 1, 2, 3] rfl) hf
end
section
variable {r : Unit} {Sf : gS}
def fX12_init_c12_b17 (t0 : Nat) (t1 : Int32) (t2 : Option Nat) (t3 : Int32) (S : gS) : gO Unit :=
  gb (fX12_init_2_c12 t0 t1 t2 t3 S) fun _ S1 =>
  some ((), S1, 0, 0)
theorem wX12_init_c12_b17 (hk : rOK Rp) (hJ : JDK l G Rp) (hc : gC p s m args meth c G RX12 "<init>" cX12_init 3 (none)) (t0 : Nat) (t1 : Int32) (t2 : Option Nat) (t3 : Int32) (S : gS) (H : Heap) (locs : List Loc) (ls : Array Slot) (kc ks C N : Nat) (hkc : kc + C ≤ mc) (hks : ks + N ≤ ms) (hH : hp G Rp S H) (hS : va_S G.2.2.2 s.heap H locs) (hl : lv_has ls 3 []) (hf : fX12_init_c12_b17 t0 t1 t2 t3 S = some (r, Sf, C, N)) : W p l e (gR 2 63 mc ms) s m args below meth c H locs kc ks (gQ below G Rp none Sf args s mc ms) (F0 m 17 ls [.int t3, va_rf t2, .int t1, .ref t0]) := by
  obtain ⟨hx, hb, hr, hlk, hml, hown, hts, hE, hA, hnm⟩ := hc
  have hc : gC p s m args meth c G RX12 "<init>" cX12_init 3 (none) := ⟨hx, hb, hr, hlk, hml, hown, hts, hE, hA, hnm⟩
  unfold fX12_init_c12_b17 at hf
  obtain ⟨_, S1, c1, n1, c2_1, n2_1, e1, hf, hC1, hN1⟩ := gbo hf
  refine g_callI (pc := 17) (o := (some t0)) (b := t0) (As := [.int t1, va_rf t2, .int t3]) (rest := []) hc (mX12_init_2_c12 hk hJ (l0 := t0) (l1 := t1) (l2 := t2) (l3 := t3) e1) (cwI 3 hts (lw_meth q1619) rfl rfl rfl (hts _ q139) (hts _ q1617) (hts _ q1618) rfl hdiX12_init_2 ⟨Nat.le_of_ble_eq_true rfl, Nat.le_of_ble_eq_true rfl⟩) rfl rfl hl.1 rfl (lv_room (Nat.le_of_ble_eq_true rfl)) dX12_init_17 hH hS (by omega) (by omega) (fun H locs hH hS => ?_)
  have hkc : kc + c1 + c2_1 ≤ mc := by omega
  have hks : ks + n1 + n2_1 ≤ ms := by omega
  exact g_vret (pc := 20) hx hb hr hlk hH hS hkc hks hf dX12_init_20
def fX12_init_c12 (l0 : Nat) (l1 : Int32) (l2 : Option Nat) (S : gS) : gO Unit :=
  if l2 = none then
    fX12_init_c12_b17 l0 l1 l2 (nI 1) S
  else
    bd l2 fun a2 =>
    bd (rdPI S a2 2) fun v3 =>
    fX12_init_c12_b17 l0 l1 l2 (v3 + (nI 1)) S
theorem wX12_init_c12_b0 (hk : rOK Rp) (hJ : JDK l G Rp) (hc : gC p s m args meth c G RX12 "<init>" cX12_init 3 (none)) (l0 : Nat) (l1 : Int32) (l2 : Option Nat) (S : gS) (H : Heap) (locs : List Loc) (ls : Array Slot) (kc ks C N : Nat) (hkc : kc + C ≤ mc) (hks : ks + N ≤ ms) (hH : hp G Rp S H) (hS : va_S G.2.2.2 s.heap H locs) (hl : lv_has ls 3 [(0, .ref l0), (1, .int l1), (2, va_rf l2)]) (hf : fX12_init_c12 l0 l1 l2 S = some (r, Sf, C, N)) : W p l e (gR 2 63 mc ms) s m args below meth c H locs kc ks (gQ below G Rp none Sf args s mc ms) (F0 m 0 ls []) := by
  obtain ⟨hx, hb, hr, hlk, hml, hown, hts, hE, hA, hnm⟩ := hc
  have hc : gC p s m args meth c G RX12 "<init>" cX12_init 3 (none) := ⟨hx, hb, hr, hlk, hml, hown, hts, hE, hA, hnm⟩
  unfold fX12_init_c12 at hf
  refine lv_aload_n (pc := 0) hx hb dX12_init_0 rfl (lv_at hl 0 rfl) ?_
  refine lv_iload_n (pc := 1) hx hb dX12_init_1 rfl (lv_at hl 1 rfl) ?_
  refine g_aload_n (pc := 2) (o := l2) hx hb dX12_init_2 rfl (lv_at hl 2 rfl) ?_
  refine g_aload_n (pc := 3) (o := l2) hx hb dX12_init_3 rfl (lv_at hl 2 rfl) ?_
  refine g_ifnonnull (pc := 4) (o := l2) (tgt := 11) hx hb dX12_init_4 (by decide) (fun c1 => ?_) (fun c1 => ?_)
  · rw [if_neg c1] at hf
    refine g_aload_n (pc := 11) (o := l2) hx hb dX12_init_11 rfl (lv_at hl 2 rfl) ?_
    obtain ⟨a2, ea2, hf⟩ := bdo hf
    obtain ⟨v3, e3, hf⟩ := bdo hf
    refine g_getP (pc := 12) (o := l2) (a := a2) (k := 2) (v := .int v3) (ref := "CreditBroker$Cause") hx hb hts hown hE hk hH (by decide) (hts _ q1628) (fun _ h9 => h9) ea2 (rdPI_o e3) dX12_init_12 ?_
    refine lv_iconst (pc := 15) (v := nI 1) hx hb dX12_init_15 rfl ?_
    refine lv_iadd (pc := 16) hx hb dX12_init_16 ?_
    exact wX12_init_c12_b17 hk hJ hc l0 l1 l2 (v3 + (nI 1)) S _ _ ls _ _ _ _ hkc hks hH hS (lv_sub hl [] rfl) hf
  · rw [if_pos c1] at hf
    refine lv_iconst (pc := 7) (v := nI 1) hx hb dX12_init_7 rfl ?_
    refine lv_goto (pc := 8) (tgt := 17) hx hb dX12_init_8 (by decide) ?_
    exact wX12_init_c12_b17 hk hJ hc l0 l1 l2 (nI 1) S _ _ ls _ _ _ _ hkc hks hH hS (lv_sub hl [] rfl) hf
theorem mX12_init_c12 {l : Launch} {G : gG} {Rp : gM → gM → Nat → Prop} (hk : rOK Rp) (hJ : JDK l G Rp) {S S2 : gS} {r2 : Unit} {C N : Nat} {l0 : Nat} {l1 : Int32} {l2 : Option Nat} (hf : fX12_init_c12 l0 l1 l2 S = some (r2, S2, C, N)) : gMet l yX12_init cX12_init 3 (none) 2 63 G Rp [.ref l0, .int l1, va_rf l2] S none S2 C N := by
  refine g_start (by decide) (by simp [lg_sl, va_rf_cat, cat_i, cat_j, cat_r]) (fun p e s m args below meth c ls hc hl hH => ?_)
  have hl : lv_has ls 3 [(0, .ref l0), (1, .int l1), (2, va_rf l2)] := by simpa [lv_args, va_rf_cat, cat_i, cat_j, cat_r] using hl
  exact wX12_init_c12_b0 hk hJ hc l0 l1 l2 S _ _ ls 0 0 C N (by omega) (by omega) hH va_S.rf (lv_sub hl [0, 1, 2] rfl) hf
end
section
variable {r : Unit} {Sf : gS}
def fX17_init_2_c12 (l0 : Nat) (l1 : Int32) (l2 : Option Nat) (l3 : Int32) (l4 : Int32) (S : gS) : gO Unit :=
  gb (fX12_init_c12 l0 l1 l2 S) fun _ S1 =>
  bd (wr S1 l0 12 3 (.int l3)) fun S2 =>
  bd (wr S2 l0 12 4 (.int l4)) fun S3 =>
  some ((), S3, 0, 0)
theorem wX17_init_2_c12_b0 (hk : rOK Rp) (hJ : JDK l G Rp) (hc : gC p s m args meth c G RX17 "<init>" cX17_init_2 5 (none)) (l0 : Nat) (l1 : Int32) (l2 : Option Nat) (l3 : Int32) (l4 : Int32) (S : gS) (H : Heap) (locs : List Loc) (ls : Array Slot) (kc ks C N : Nat) (hkc : kc + C ≤ mc) (hks : ks + N ≤ ms) (hH : hp G Rp S H) (hS : va_S G.2.2.2 s.heap H locs) (hl : lv_has ls 5 [(0, .ref l0), (1, .int l1), (2, va_rf l2), (3, .int l3), (4, .int l4)]) (hf : fX17_init_2_c12 l0 l1 l2 l3 l4 S = some (r, Sf, C, N)) : W p l e (gR 3 85 mc ms) s m args below meth c H locs kc ks (gQ below G Rp none Sf args s mc ms) (F0 m 0 ls []) := by
  obtain ⟨hx, hb, hr, hlk, hml, hown, hts, hE, hA, hnm⟩ := hc
  have hc : gC p s m args meth c G RX17 "<init>" cX17_init_2 5 (none) := ⟨hx, hb, hr, hlk, hml, hown, hts, hE, hA, hnm⟩
  unfold fX17_init_2_c12 at hf
  refine lv_aload_n (pc := 0) hx hb dX17_init_2_0 rfl (lv_at hl 0 rfl) ?_
  refine lv_iload_n (pc := 1) hx hb dX17_init_2_1 rfl (lv_at hl 1 rfl) ?_
  refine g_aload_n (pc := 2) (o := l2) hx hb dX17_init_2_2 rfl (lv_at hl 2 rfl) ?_
  obtain ⟨_, S1, c1, n1, c2_1, n2_1, e1, hf, hC1, hN1⟩ := gbo hf
  refine g_callI (pc := 3) (o := (some l0)) (b := l0) (As := [.int l1, va_rf l2]) (rest := []) hc (mX12_init_c12 hk hJ (l0 := l0) (l1 := l1) (l2 := l2) e1) (cwI 2 hts (lw_meth q1616) rfl rfl rfl (hts _ q139) (hts _ q1883) (hts _ q1615) rfl hdiX12_init ⟨Nat.le_of_ble_eq_true rfl, Nat.le_of_ble_eq_true rfl⟩) rfl rfl hl.1 rfl (lv_room (Nat.le_of_ble_eq_true rfl)) dX17_init_2_3 hH hS (by omega) (by omega) (fun H locs hH hS => ?_)
  have hkc : kc + c1 + c2_1 ≤ mc := by omega
  have hks : ks + n1 + n2_1 ≤ ms := by omega
  refine lv_aload_n (pc := 6) hx hb dX17_init_2_6 rfl (lv_at hl 0 rfl) ?_
  refine lv_iload_n (pc := 7) hx hb dX17_init_2_7 rfl (lv_at hl 3 rfl) ?_
  obtain ⟨S2, e2, hf⟩ := bdo hf
  refine g_putF (pc := 8) (o := (some l0)) (a := l0) (ci := 12) (k := 3) (v := .int l3) (C := RX19) (T := TX19) (N := 5) (ty := .int) hx hb hts hown hE hk hH hS rfl in_X19 tyX19_ok nmX19 rfl (by decide) (hts _ q1884) (fun _ h9 => h9) rfl hnm rfl rfl rfl rfl rfl e2 dX17_init_2_8 (fun H locs hH hS => ?_)
  refine lv_aload_n (pc := 11) hx hb dX17_init_2_11 rfl (lv_at hl 0 rfl) ?_
  refine lv_iload (pc := 12) hx hb dX17_init_2_12 (lv_at hl 4 rfl) ?_
  obtain ⟨S3, e3, hf⟩ := bdo hf
  refine g_putF (pc := 14) (o := (some l0)) (a := l0) (ci := 12) (k := 4) (v := .int l4) (C := RX19) (T := TX19) (N := 5) (ty := .int) hx hb hts hown hE hk hH hS rfl in_X19 tyX19_ok nmX19 rfl (by decide) (hts _ q1886) (fun _ h9 => h9) rfl hnm rfl rfl rfl rfl rfl e3 dX17_init_2_14 (fun H locs hH hS => ?_)
  exact g_vret (pc := 17) hx hb hr hlk hH hS hkc hks hf dX17_init_2_17
theorem mX17_init_2_c12 {l : Launch} {G : gG} {Rp : gM → gM → Nat → Prop} (hk : rOK Rp) (hJ : JDK l G Rp) {S S2 : gS} {r2 : Unit} {C N : Nat} {l0 : Nat} {l1 : Int32} {l2 : Option Nat} {l3 : Int32} {l4 : Int32} (hf : fX17_init_2_c12 l0 l1 l2 l3 l4 S = some (r2, S2, C, N)) : gMet l yX17_init_2 cX17_init_2 5 (none) 3 85 G Rp [.ref l0, .int l1, va_rf l2, .int l3, .int l4] S none S2 C N := by
  refine g_start (by decide) (by simp [lg_sl, va_rf_cat, cat_i, cat_j, cat_r]) (fun p e s m args below meth c ls hc hl hH => ?_)
  have hl : lv_has ls 5 [(0, .ref l0), (1, .int l1), (2, va_rf l2), (3, .int l3), (4, .int l4)] := by simpa [lv_args, va_rf_cat, cat_i, cat_j, cat_r] using hl
  exact wX17_init_2_c12_b0 hk hJ hc l0 l1 l2 l3 l4 S _ _ ls 0 0 C N (by omega) (by omega) hH va_S.rf (lv_sub hl [0, 1, 2, 3, 4] rfl) hf
end
section
variable {r : Unit} {Sf : gS}
def fX17_init_c12 (l0 : Nat) (l1 : Int32) (l2 : Option Nat) (S : gS) : gO Unit :=
  bd l2 fun a1 =>
  bd (rdR S a1 4 5) fun v2 =>
  bd (rdI S a1 4 3) fun v3 =>
  bd (rdI S a1 4 4) fun v4 =>
  gb (fX17_init_2_c12 l0 l1 v2 v3 v4 S) fun _ S5 =>
  some ((), S5, 0, 0)
theorem wX17_init_c12_b0 (hk : rOK Rp) (hJ : JDK l G Rp) (hc : gC p s m args meth c G RX17 "<init>" cX17_init 3 (none)) (l0 : Nat) (l1 : Int32) (l2 : Option Nat) (S : gS) (H : Heap) (locs : List Loc) (ls : Array Slot) (kc ks C N : Nat) (hkc : kc + C ≤ mc) (hks : ks + N ≤ ms) (hH : hp G Rp S H) (hS : va_S G.2.2.2 s.heap H locs) (hl : lv_has ls 3 [(0, .ref l0), (1, .int l1), (2, va_rf l2)]) (hf : fX17_init_c12 l0 l1 l2 S = some (r, Sf, C, N)) : W p l e (gR 4 109 mc ms) s m args below meth c H locs kc ks (gQ below G Rp none Sf args s mc ms) (F0 m 0 ls []) := by
  obtain ⟨hx, hb, hr, hlk, hml, hown, hts, hE, hA, hnm⟩ := hc
  have hc : gC p s m args meth c G RX17 "<init>" cX17_init 3 (none) := ⟨hx, hb, hr, hlk, hml, hown, hts, hE, hA, hnm⟩
  unfold fX17_init_c12 at hf
  refine lv_aload_n (pc := 0) hx hb dX17_init_0 rfl (lv_at hl 0 rfl) ?_
  refine lv_iload_n (pc := 1) hx hb dX17_init_1 rfl (lv_at hl 1 rfl) ?_
  refine g_aload_n (pc := 2) (o := l2) hx hb dX17_init_2 rfl (lv_at hl 2 rfl) ?_
  obtain ⟨a1, ea1, hf⟩ := bdo hf
  obtain ⟨v2, e2, hf⟩ := bdo hf
  refine g_get (pc := 3) (o := l2) (a := a1) (ci := 4) (k := 5) (v := va_rf v2) (C := RX16) (T := TX16) (N := 6) hx hb hts hown hE hk hH in_X16 rfl (by decide) (hts _ q1728) (fun _ h9 => h9) ea1 (rdR_o e2) dX17_init_3 ?_
  refine g_aload_n (pc := 6) (o := l2) hx hb dX17_init_6 rfl (lv_at hl 2 rfl) ?_
  obtain ⟨v3, e3, hf⟩ := bdo hf
  refine g_get (pc := 7) (o := l2) (a := a1) (ci := 4) (k := 3) (v := .int v3) (C := RX16) (T := TX16) (N := 6) hx hb hts hown hE hk hH in_X16 rfl (by decide) (hts _ q1720) (fun _ h9 => h9) ea1 (rdI_o e3) dX17_init_7 ?_
  refine g_aload_n (pc := 10) (o := l2) hx hb dX17_init_10 rfl (lv_at hl 2 rfl) ?_
  obtain ⟨v4, e4, hf⟩ := bdo hf
  refine g_get (pc := 11) (o := l2) (a := a1) (ci := 4) (k := 4) (v := .int v4) (C := RX16) (T := TX16) (N := 6) hx hb hts hown hE hk hH in_X16 rfl (by decide) (hts _ q1724) (fun _ h9 => h9) ea1 (rdI_o e4) dX17_init_11 ?_
  obtain ⟨_, S5, c5, n5, c2_5, n2_5, e5, hf, hC5, hN5⟩ := gbo hf
  refine g_callI (pc := 14) (o := (some l0)) (b := l0) (As := [.int l1, va_rf v2, .int v3, .int v4]) (rest := []) hc (mX17_init_2_c12 hk hJ (l0 := l0) (l1 := l1) (l2 := v2) (l3 := v3) (l4 := v4) e5) (cwI 4 hts (lw_meth q1882) rfl rfl rfl (hts _ q145) (hts _ q1880) (hts _ q1881) rfl hdiX17_init_2 ⟨Nat.le_of_ble_eq_true rfl, Nat.le_of_ble_eq_true rfl⟩) rfl rfl hl.1 rfl (lv_room (Nat.le_of_ble_eq_true rfl)) dX17_init_14 hH hS (by omega) (by omega) (fun H locs hH hS => ?_)
  have hkc : kc + c5 + c2_5 ≤ mc := by omega
  have hks : ks + n5 + n2_5 ≤ ms := by omega
  exact g_vret (pc := 17) hx hb hr hlk hH hS hkc hks hf dX17_init_17
theorem mX17_init_c12 {l : Launch} {G : gG} {Rp : gM → gM → Nat → Prop} (hk : rOK Rp) (hJ : JDK l G Rp) {S S2 : gS} {r2 : Unit} {C N : Nat} {l0 : Nat} {l1 : Int32} {l2 : Option Nat} (hf : fX17_init_c12 l0 l1 l2 S = some (r2, S2, C, N)) : gMet l yX17_init cX17_init 3 (none) 4 109 G Rp [.ref l0, .int l1, va_rf l2] S none S2 C N := by
  refine g_start (by decide) (by simp [lg_sl, va_rf_cat, cat_i, cat_j, cat_r]) (fun p e s m args below meth c ls hc hl hH => ?_)
  have hl : lv_has ls 3 [(0, .ref l0), (1, .int l1), (2, va_rf l2)] := by simpa [lv_args, va_rf_cat, cat_i, cat_j, cat_r] using hl
  exact wX17_init_c12_b0 hk hJ hc l0 l1 l2 S _ _ ls 0 0 C N (by omega) (by omega) hH va_S.rf (lv_sub hl [0, 1, 2] rfl) hf
end
section
variable {r : Unit} {Sf : gS}
def fX19_init (l0 : Nat) (l1 : Int32) (l2 : Option Nat) (S : gS) : gO Unit :=
  gb (fX17_init_c12 l0 l1 l2 S) fun _ S1 =>
  some ((), S1, 0, 0)
theorem wX19_init_b0 (hk : rOK Rp) (hJ : JDK l G Rp) (hc : gC p s m args meth c G RX19 "<init>" cX19_init 3 (none)) (l0 : Nat) (l1 : Int32) (l2 : Option Nat) (S : gS) (H : Heap) (locs : List Loc) (ls : Array Slot) (kc ks C N : Nat) (hkc : kc + C ≤ mc) (hks : ks + N ≤ ms) (hH : hp G Rp S H) (hS : va_S G.2.2.2 s.heap H locs) (hl : lv_has ls 3 [(0, .ref l0), (1, .int l1), (2, va_rf l2)]) (hf : fX19_init l0 l1 l2 S = some (r, Sf, C, N)) : W p l e (gR 5 131 mc ms) s m args below meth c H locs kc ks (gQ below G Rp none Sf args s mc ms) (F0 m 0 ls []) := by
  obtain ⟨hx, hb, hr, hlk, hml, hown, hts, hE, hA, hnm⟩ := hc
  have hc : gC p s m args meth c G RX19 "<init>" cX19_init 3 (none) := ⟨hx, hb, hr, hlk, hml, hown, hts, hE, hA, hnm⟩
  unfold fX19_init at hf
  refine lv_aload_n (pc := 0) hx hb dX19_init_0 rfl (lv_at hl 0 rfl) ?_
  refine lv_iload_n (pc := 1) hx hb dX19_init_1 rfl (lv_at hl 1 rfl) ?_
  refine g_aload_n (pc := 2) (o := l2) hx hb dX19_init_2 rfl (lv_at hl 2 rfl) ?_
  obtain ⟨_, S1, c1, n1, c2_1, n2_1, e1, hf, hC1, hN1⟩ := gbo hf
  refine g_callI (pc := 3) (o := (some l0)) (b := l0) (As := [.int l1, va_rf l2]) (rest := []) hc (mX17_init_c12 hk hJ (l0 := l0) (l1 := l1) (l2 := l2) e1) (cwI 2 hts (lw_meth q1879) rfl rfl rfl (hts _ q145) (hts _ q1921) (hts _ q1878) rfl hdiX17_init ⟨Nat.le_of_ble_eq_true rfl, Nat.le_of_ble_eq_true rfl⟩) rfl rfl hl.1 rfl (lv_room (Nat.le_of_ble_eq_true rfl)) dX19_init_3 hH hS (by omega) (by omega) (fun H locs hH hS => ?_)
  have hkc : kc + c1 + c2_1 ≤ mc := by omega
  have hks : ks + n1 + n2_1 ≤ ms := by omega
  exact g_vret (pc := 6) hx hb hr hlk hH hS hkc hks hf dX19_init_6
theorem mX19_init {l : Launch} {G : gG} {Rp : gM → gM → Nat → Prop} (hk : rOK Rp) (hJ : JDK l G Rp) {S S2 : gS} {r2 : Unit} {C N : Nat} {l0 : Nat} {l1 : Int32} {l2 : Option Nat} (hf : fX19_init l0 l1 l2 S = some (r2, S2, C, N)) : gMet l yX19_init cX19_init 3 (none) 5 131 G Rp [.ref l0, .int l1, va_rf l2] S none S2 C N := by
  refine g_start (by decide) (by simp [lg_sl, va_rf_cat, cat_i, cat_j, cat_r]) (fun p e s m args below meth c ls hc hl hH => ?_)
  have hl : lv_has ls 3 [(0, .ref l0), (1, .int l1), (2, va_rf l2)] := by simpa [lv_args, va_rf_cat, cat_i, cat_j, cat_r] using hl
  exact wX19_init_b0 hk hJ hc l0 l1 l2 S _ _ ls 0 0 C N (by omega) (by omega) hH va_S.rf (lv_sub hl [0, 1, 2] rfl) hf
end
section
variable {r : Unit} {Sf : gS}
def fX16_readies (l0 : Nat) (S : gS) : gO Unit :=
  bd (chk S l0 4) fun _ =>
  gb (fX16_becomes l0 (nI 0) (-1) (-1) S) fun _ S1 =>
  some ((), S1, 0, 0)
theorem wX16_readies_b0 (hk : rOK Rp) (hJ : JDK l G Rp) (hc : gC p s m args meth c G RX16 "readies" cX16_readies 1 (none)) (l0 : Nat) (S : gS) (H : Heap) (locs : List Loc) (ls : Array Slot) (kc ks C N : Nat) (hkc : kc + C ≤ mc) (hks : ks + N ≤ ms) (hH : hp G Rp S H) (hS : va_S G.2.2.2 s.heap H locs) (hl : lv_has ls 1 [(0, .ref l0)]) (hf : fX16_readies l0 S = some (r, Sf, C, N)) : W p l e (gR 2 63 mc ms) s m args below meth c H locs kc ks (gQ below G Rp none Sf args s mc ms) (F0 m 0 ls []) := by
  obtain ⟨hx, hb, hr, hlk, hml, hown, hts, hE, hA, hnm⟩ := hc
  have hc : gC p s m args meth c G RX16 "readies" cX16_readies 1 (none) := ⟨hx, hb, hr, hlk, hml, hown, hts, hE, hA, hnm⟩
  unfold fX16_readies at hf
  refine lv_aload_n (pc := 0) hx hb dX16_readies_0 rfl (lv_at hl 0 rfl) ?_
  refine lv_iconst (pc := 1) (v := nI 0) hx hb dX16_readies_1 rfl ?_
  refine lv_iconst (pc := 2) (v := -1) hx hb dX16_readies_2 rfl ?_
  refine lv_iconst (pc := 3) (v := -1) hx hb dX16_readies_3 rfl ?_
  obtain ⟨_, ek1, hf⟩ := bdo hf
  obtain ⟨_, S1, c1, n1, c2_1, n2_1, e1, hf, hC1, hN1⟩ := gbo hf
  refine g_callV (pc := 4) (o := (some l0)) (b := l0) (As := [.int (nI 0), .int (-1), .int (-1)]) (rest := []) (st1 := []) hc (mX16_becomes hk hJ (l0 := l0) (l1 := (nI 0)) (l2 := (-1)) (l3 := (-1)) e1) (cwV 3 hts (lw_V q1521 q1522 q1523 q144 q1524) rfl rfl rfl hdX16_becomes ⟨Nat.le_of_ble_eq_true rfl, Nat.le_of_ble_eq_true rfl⟩) (g_recv hE hk hH (ci := 4) (q := (RX16, TX16, 6)) rfl (chk_o ek1).choose_spec) rfl rfl hl.1 rfl rfl (lv_room (Nat.le_of_ble_eq_true rfl)) dX16_readies_4 hH hS (by omega) (by omega) (fun H locs hH hS => ?_)
  have hkc : kc + c1 + c2_1 ≤ mc := by omega
  have hks : ks + n1 + n2_1 ≤ ms := by omega
  exact g_vret (pc := 7) hx hb hr hlk hH hS hkc hks hf dX16_readies_7
theorem mX16_readies {l : Launch} {G : gG} {Rp : gM → gM → Nat → Prop} (hk : rOK Rp) (hJ : JDK l G Rp) {S S2 : gS} {r2 : Unit} {C N : Nat} {l0 : Nat} (hf : fX16_readies l0 S = some (r2, S2, C, N)) : gMet l yX16_readies cX16_readies 1 (none) 2 63 G Rp [.ref l0] S none S2 C N := by
  refine g_start (by decide) (Nat.le_of_ble_eq_true rfl) (fun p e s m args below meth c ls hc hl hH => ?_)
  have hl : lv_has ls 1 [(0, .ref l0)] := hl
  exact wX16_readies_b0 hk hJ hc l0 S _ _ ls 0 0 C N (by omega) (by omega) hH va_S.rf (lv_sub hl [0] rfl) hf
end
section
variable {r : Unit} {Sf : gS}
def fX12_init_2_c13 (l0 : Nat) (l1 : Int32) (l2 : Option Nat) (l3 : Int32) (S : gS) : gO Unit :=
  bd (wr S l0 13 0 (.int l1)) fun S2 =>
  bd (wr S2 l0 13 1 (va_rf l2)) fun S3 =>
  bd (wr S3 l0 13 2 (.int l3)) fun S4 =>
  some ((), S4, 0, 0)
theorem wX12_init_2_c13_b0 (hk : rOK Rp) (hJ : JDK l G Rp) (hc : gC p s m args meth c G RX12 "<init>" cX12_init_2 4 (none)) (l0 : Nat) (l1 : Int32) (l2 : Option Nat) (l3 : Int32) (S : gS) (H : Heap) (locs : List Loc) (ls : Array Slot) (kc ks C N : Nat) (hkc : kc + C ≤ mc) (hks : ks + N ≤ ms) (hH : hp G Rp S H) (hS : va_S G.2.2.2 s.heap H locs) (hl : lv_has ls 4 [(0, .ref l0), (1, .int l1), (2, va_rf l2), (3, .int l3)]) (hf : fX12_init_2_c13 l0 l1 l2 l3 S = some (r, Sf, C, N)) : W p l e (gR 1 40 mc ms) s m args below meth c H locs kc ks (gQ below G Rp none Sf args s mc ms) (F0 m 0 ls []) := by
  obtain ⟨hx, hb, hr, hlk, hml, hown, hts, hE, hA, hnm⟩ := hc
  have hc : gC p s m args meth c G RX12 "<init>" cX12_init_2 4 (none) := ⟨hx, hb, hr, hlk, hml, hown, hts, hE, hA, hnm⟩
  unfold fX12_init_2_c13 at hf
  refine lv_aload_n (pc := 0) hx hb dX12_init_2_0 rfl (lv_at hl 0 rfl) ?_
  refine W.objInit  hx hb hown (hts _ q1620) (hts _ q169) (hts _ q170) rfl (by rw [hml]; exact hl.1) rfl dX12_init_2_1 (Nat.le_of_ble_eq_true rfl) (Nat.le_of_ble_eq_true rfl) ?_
  refine W.eq (g2 := F0 m 4 ls []) rfl ?_
  refine lv_aload_n (pc := 4) hx hb dX12_init_2_4 rfl (lv_at hl 0 rfl) ?_
  refine lv_iload_n (pc := 5) hx hb dX12_init_2_5 rfl (lv_at hl 1 rfl) ?_
  obtain ⟨S2, e2, hf⟩ := bdo hf
  refine g_putF (pc := 6) (o := (some l0)) (a := l0) (ci := 13) (k := 0) (v := .int l1) (C := RX20) (T := TX20) (N := 4) (ty := .int) hx hb hts hown hE hk hH hS rfl in_X20 tyX20_ok nmX20 rfl (by decide) (hts _ q1623) (fun _ h9 => h9) rfl hnm rfl rfl rfl rfl rfl e2 dX12_init_2_6 (fun H locs hH hS => ?_)
  refine lv_aload_n (pc := 9) hx hb dX12_init_2_9 rfl (lv_at hl 0 rfl) ?_
  refine g_aload_n (pc := 10) (o := l2) hx hb dX12_init_2_10 rfl (lv_at hl 2 rfl) ?_
  obtain ⟨S3, e3, hf⟩ := bdo hf
  refine g_putF (pc := 11) (o := (some l0)) (a := l0) (ci := 13) (k := 1) (v := va_rf l2) (C := RX20) (T := TX20) (N := 4) (ty := .object "CreditBroker$Cause") hx hb hts hown hE hk hH hS rfl in_X20 tyX20_ok nmX20 rfl (by decide) (hts _ q1625) (fun _ h9 => h9) rfl hnm rfl rfl (nar_rf _ _) (fit_rf _ _) rfl e3 dX12_init_2_11 (fun H locs hH hS => ?_)
  refine lv_aload_n (pc := 14) hx hb dX12_init_2_14 rfl (lv_at hl 0 rfl) ?_
  refine lv_iload_n (pc := 15) hx hb dX12_init_2_15 rfl (lv_at hl 3 rfl) ?_
  obtain ⟨S4, e4, hf⟩ := bdo hf
  refine g_putF (pc := 16) (o := (some l0)) (a := l0) (ci := 13) (k := 2) (v := .int l3) (C := RX20) (T := TX20) (N := 4) (ty := .int) hx hb hts hown hE hk hH hS rfl in_X20 tyX20_ok nmX20 rfl (by decide) (hts _ q1628) (fun _ h9 => h9) rfl hnm rfl rfl rfl rfl rfl e4 dX12_init_2_16 (fun H locs hH hS => ?_)
  exact g_vret (pc := 19) hx hb hr hlk hH hS hkc hks hf dX12_init_2_19
theorem mX12_init_2_c13 {l : Launch} {G : gG} {Rp : gM → gM → Nat → Prop} (hk : rOK Rp) (hJ : JDK l G Rp) {S S2 : gS} {r2 : Unit} {C N : Nat} {l0 : Nat} {l1 : Int32} {l2 : Option Nat} {l3 : Int32} (hf : fX12_init_2_c13 l0 l1 l2 l3 S = some (r2, S2, C, N)) : gMet l yX12_init_2 cX12_init_2 4 (none) 1 40 G Rp [.ref l0, .int l1, va_rf l2, .int l3] S none S2 C N := by
  refine g_start (by decide) (by simp [lg_sl, va_rf_cat, cat_i, cat_j, cat_r]) (fun p e s m args below meth c ls hc hl hH => ?_)
  have hl : lv_has ls 4 [(0, .ref l0), (1, .int l1), (2, va_rf l2), (3, .int l3)] := by simpa [lv_args, va_rf_cat, cat_i, cat_j, cat_r] using hl
  exact wX12_init_2_c13_b0 hk hJ hc l0 l1 l2 l3 S _ _ ls 0 0 C N (by omega) (by omega) hH va_S.rf (lv_sub hl [0, 1, 2, 3] rfl) hf
end
section
variable {r : Unit} {Sf : gS}
def fX12_init_c13_b17 (t0 : Nat) (t1 : Int32) (t2 : Option Nat) (t3 : Int32) (S : gS) : gO Unit :=
  gb (fX12_init_2_c13 t0 t1 t2 t3 S) fun _ S1 =>
  some ((), S1, 0, 0)
theorem wX12_init_c13_b17 (hk : rOK Rp) (hJ : JDK l G Rp) (hc : gC p s m args meth c G RX12 "<init>" cX12_init 3 (none)) (t0 : Nat) (t1 : Int32) (t2 : Option Nat) (t3 : Int32) (S : gS) (H : Heap) (locs : List Loc) (ls : Array Slot) (kc ks C N : Nat) (hkc : kc + C ≤ mc) (hks : ks + N ≤ ms) (hH : hp G Rp S H) (hS : va_S G.2.2.2 s.heap H locs) (hl : lv_has ls 3 []) (hf : fX12_init_c13_b17 t0 t1 t2 t3 S = some (r, Sf, C, N)) : W p l e (gR 2 63 mc ms) s m args below meth c H locs kc ks (gQ below G Rp none Sf args s mc ms) (F0 m 17 ls [.int t3, va_rf t2, .int t1, .ref t0]) := by
  obtain ⟨hx, hb, hr, hlk, hml, hown, hts, hE, hA, hnm⟩ := hc
  have hc : gC p s m args meth c G RX12 "<init>" cX12_init 3 (none) := ⟨hx, hb, hr, hlk, hml, hown, hts, hE, hA, hnm⟩
  unfold fX12_init_c13_b17 at hf
  obtain ⟨_, S1, c1, n1, c2_1, n2_1, e1, hf, hC1, hN1⟩ := gbo hf
  refine g_callI (pc := 17) (o := (some t0)) (b := t0) (As := [.int t1, va_rf t2, .int t3]) (rest := []) hc (mX12_init_2_c13 hk hJ (l0 := t0) (l1 := t1) (l2 := t2) (l3 := t3) e1) (cwI 3 hts (lw_meth q1619) rfl rfl rfl (hts _ q139) (hts _ q1617) (hts _ q1618) rfl hdiX12_init_2 ⟨Nat.le_of_ble_eq_true rfl, Nat.le_of_ble_eq_true rfl⟩) rfl rfl hl.1 rfl (lv_room (Nat.le_of_ble_eq_true rfl)) dX12_init_17 hH hS (by omega) (by omega) (fun H locs hH hS => ?_)
  have hkc : kc + c1 + c2_1 ≤ mc := by omega
  have hks : ks + n1 + n2_1 ≤ ms := by omega
  exact g_vret (pc := 20) hx hb hr hlk hH hS hkc hks hf dX12_init_20
def fX12_init_c13 (l0 : Nat) (l1 : Int32) (l2 : Option Nat) (S : gS) : gO Unit :=
  if l2 = none then
    fX12_init_c13_b17 l0 l1 l2 (nI 1) S
  else
    bd l2 fun a2 =>
    bd (rdPI S a2 2) fun v3 =>
    fX12_init_c13_b17 l0 l1 l2 (v3 + (nI 1)) S
theorem wX12_init_c13_b0 (hk : rOK Rp) (hJ : JDK l G Rp) (hc : gC p s m args meth c G RX12 "<init>" cX12_init 3 (none)) (l0 : Nat) (l1 : Int32) (l2 : Option Nat) (S : gS) (H : Heap) (locs : List Loc) (ls : Array Slot) (kc ks C N : Nat) (hkc : kc + C ≤ mc) (hks : ks + N ≤ ms) (hH : hp G Rp S H) (hS : va_S G.2.2.2 s.heap H locs) (hl : lv_has ls 3 [(0, .ref l0), (1, .int l1), (2, va_rf l2)]) (hf : fX12_init_c13 l0 l1 l2 S = some (r, Sf, C, N)) : W p l e (gR 2 63 mc ms) s m args below meth c H locs kc ks (gQ below G Rp none Sf args s mc ms) (F0 m 0 ls []) := by
  obtain ⟨hx, hb, hr, hlk, hml, hown, hts, hE, hA, hnm⟩ := hc
  have hc : gC p s m args meth c G RX12 "<init>" cX12_init 3 (none) := ⟨hx, hb, hr, hlk, hml, hown, hts, hE, hA, hnm⟩
  unfold fX12_init_c13 at hf
  refine lv_aload_n (pc := 0) hx hb dX12_init_0 rfl (lv_at hl 0 rfl) ?_
  refine lv_iload_n (pc := 1) hx hb dX12_init_1 rfl (lv_at hl 1 rfl) ?_
  refine g_aload_n (pc := 2) (o := l2) hx hb dX12_init_2 rfl (lv_at hl 2 rfl) ?_
  refine g_aload_n (pc := 3) (o := l2) hx hb dX12_init_3 rfl (lv_at hl 2 rfl) ?_
  refine g_ifnonnull (pc := 4) (o := l2) (tgt := 11) hx hb dX12_init_4 (by decide) (fun c1 => ?_) (fun c1 => ?_)
  · rw [if_neg c1] at hf
    refine g_aload_n (pc := 11) (o := l2) hx hb dX12_init_11 rfl (lv_at hl 2 rfl) ?_
    obtain ⟨a2, ea2, hf⟩ := bdo hf
    obtain ⟨v3, e3, hf⟩ := bdo hf
    refine g_getP (pc := 12) (o := l2) (a := a2) (k := 2) (v := .int v3) (ref := "CreditBroker$Cause") hx hb hts hown hE hk hH (by decide) (hts _ q1628) (fun _ h9 => h9) ea2 (rdPI_o e3) dX12_init_12 ?_
    refine lv_iconst (pc := 15) (v := nI 1) hx hb dX12_init_15 rfl ?_
    refine lv_iadd (pc := 16) hx hb dX12_init_16 ?_
    exact wX12_init_c13_b17 hk hJ hc l0 l1 l2 (v3 + (nI 1)) S _ _ ls _ _ _ _ hkc hks hH hS (lv_sub hl [] rfl) hf
  · rw [if_pos c1] at hf
    refine lv_iconst (pc := 7) (v := nI 1) hx hb dX12_init_7 rfl ?_
    refine lv_goto (pc := 8) (tgt := 17) hx hb dX12_init_8 (by decide) ?_
    exact wX12_init_c13_b17 hk hJ hc l0 l1 l2 (nI 1) S _ _ ls _ _ _ _ hkc hks hH hS (lv_sub hl [] rfl) hf
theorem mX12_init_c13 {l : Launch} {G : gG} {Rp : gM → gM → Nat → Prop} (hk : rOK Rp) (hJ : JDK l G Rp) {S S2 : gS} {r2 : Unit} {C N : Nat} {l0 : Nat} {l1 : Int32} {l2 : Option Nat} (hf : fX12_init_c13 l0 l1 l2 S = some (r2, S2, C, N)) : gMet l yX12_init cX12_init 3 (none) 2 63 G Rp [.ref l0, .int l1, va_rf l2] S none S2 C N := by
  refine g_start (by decide) (by simp [lg_sl, va_rf_cat, cat_i, cat_j, cat_r]) (fun p e s m args below meth c ls hc hl hH => ?_)
  have hl : lv_has ls 3 [(0, .ref l0), (1, .int l1), (2, va_rf l2)] := by simpa [lv_args, va_rf_cat, cat_i, cat_j, cat_r] using hl
  exact wX12_init_c13_b0 hk hJ hc l0 l1 l2 S _ _ ls 0 0 C N (by omega) (by omega) hH va_S.rf (lv_sub hl [0, 1, 2] rfl) hf
end
section
variable {r : Unit} {Sf : gS}
def fX13_init_c13 (l0 : Nat) (l1 : Int32) (l2 : Option Nat) (S : gS) : gO Unit :=
  gb (fX12_init_c13 l0 l1 l2 S) fun _ S1 =>
  some ((), S1, 0, 0)
theorem wX13_init_c13_b0 (hk : rOK Rp) (hJ : JDK l G Rp) (hc : gC p s m args meth c G RX13 "<init>" cX13_init 3 (none)) (l0 : Nat) (l1 : Int32) (l2 : Option Nat) (S : gS) (H : Heap) (locs : List Loc) (ls : Array Slot) (kc ks C N : Nat) (hkc : kc + C ≤ mc) (hks : ks + N ≤ ms) (hH : hp G Rp S H) (hS : va_S G.2.2.2 s.heap H locs) (hl : lv_has ls 3 [(0, .ref l0), (1, .int l1), (2, va_rf l2)]) (hf : fX13_init_c13 l0 l1 l2 S = some (r, Sf, C, N)) : W p l e (gR 3 85 mc ms) s m args below meth c H locs kc ks (gQ below G Rp none Sf args s mc ms) (F0 m 0 ls []) := by
  obtain ⟨hx, hb, hr, hlk, hml, hown, hts, hE, hA, hnm⟩ := hc
  have hc : gC p s m args meth c G RX13 "<init>" cX13_init 3 (none) := ⟨hx, hb, hr, hlk, hml, hown, hts, hE, hA, hnm⟩
  unfold fX13_init_c13 at hf
  refine lv_aload_n (pc := 0) hx hb dX13_init_0 rfl (lv_at hl 0 rfl) ?_
  refine lv_iload_n (pc := 1) hx hb dX13_init_1 rfl (lv_at hl 1 rfl) ?_
  refine g_aload_n (pc := 2) (o := l2) hx hb dX13_init_2 rfl (lv_at hl 2 rfl) ?_
  obtain ⟨_, S1, c1, n1, c2_1, n2_1, e1, hf, hC1, hN1⟩ := gbo hf
  refine g_callI (pc := 3) (o := (some l0)) (b := l0) (As := [.int l1, va_rf l2]) (rest := []) hc (mX12_init_c13 hk hJ (l0 := l0) (l1 := l1) (l2 := l2) e1) (cwI 2 hts (lw_meth q1616) rfl rfl rfl (hts _ q139) (hts _ q1614) (hts _ q1615) rfl hdiX12_init ⟨Nat.le_of_ble_eq_true rfl, Nat.le_of_ble_eq_true rfl⟩) rfl rfl hl.1 rfl (lv_room (Nat.le_of_ble_eq_true rfl)) dX13_init_3 hH hS (by omega) (by omega) (fun H locs hH hS => ?_)
  have hkc : kc + c1 + c2_1 ≤ mc := by omega
  have hks : ks + n1 + n2_1 ≤ ms := by omega
  exact g_vret (pc := 6) hx hb hr hlk hH hS hkc hks hf dX13_init_6
theorem mX13_init_c13 {l : Launch} {G : gG} {Rp : gM → gM → Nat → Prop} (hk : rOK Rp) (hJ : JDK l G Rp) {S S2 : gS} {r2 : Unit} {C N : Nat} {l0 : Nat} {l1 : Int32} {l2 : Option Nat} (hf : fX13_init_c13 l0 l1 l2 S = some (r2, S2, C, N)) : gMet l yX13_init cX13_init 3 (none) 3 85 G Rp [.ref l0, .int l1, va_rf l2] S none S2 C N := by
  refine g_start (by decide) (by simp [lg_sl, va_rf_cat, cat_i, cat_j, cat_r]) (fun p e s m args below meth c ls hc hl hH => ?_)
  have hl : lv_has ls 3 [(0, .ref l0), (1, .int l1), (2, va_rf l2)] := by simpa [lv_args, va_rf_cat, cat_i, cat_j, cat_r] using hl
  exact wX13_init_c13_b0 hk hJ hc l0 l1 l2 S _ _ ls 0 0 C N (by omega) (by omega) hH va_S.rf (lv_sub hl [0, 1, 2] rfl) hf
end
section
variable {r : Unit} {Sf : gS}
def fX20_init (l0 : Nat) (l1 : Int32) (l2 : Option Nat) (S : gS) : gO Unit :=
  bd l2 fun a1 =>
  bd (rdR S a1 4 5) fun v2 =>
  gb (fX13_init_c13 l0 l1 v2 S) fun _ S3 =>
  bd (rdR S3 a1 4 0) fun v4 =>
  bd v4 fun a5 =>
  bd (rdI S3 a5 5 4) fun v6 =>
  bd (wr S3 l0 13 3 (.int (l1 - v6))) fun S7 =>
  some ((), S7, 0, 0)
theorem wX20_init_b0 (hk : rOK Rp) (hJ : JDK l G Rp) (hc : gC p s m args meth c G RX20 "<init>" cX20_init 3 (none)) (l0 : Nat) (l1 : Int32) (l2 : Option Nat) (S : gS) (H : Heap) (locs : List Loc) (ls : Array Slot) (kc ks C N : Nat) (hkc : kc + C ≤ mc) (hks : ks + N ≤ ms) (hH : hp G Rp S H) (hS : va_S G.2.2.2 s.heap H locs) (hl : lv_has ls 3 [(0, .ref l0), (1, .int l1), (2, va_rf l2)]) (hf : fX20_init l0 l1 l2 S = some (r, Sf, C, N)) : W p l e (gR 4 107 mc ms) s m args below meth c H locs kc ks (gQ below G Rp none Sf args s mc ms) (F0 m 0 ls []) := by
  obtain ⟨hx, hb, hr, hlk, hml, hown, hts, hE, hA, hnm⟩ := hc
  have hc : gC p s m args meth c G RX20 "<init>" cX20_init 3 (none) := ⟨hx, hb, hr, hlk, hml, hown, hts, hE, hA, hnm⟩
  unfold fX20_init at hf
  refine lv_aload_n (pc := 0) hx hb dX20_init_0 rfl (lv_at hl 0 rfl) ?_
  refine lv_iload_n (pc := 1) hx hb dX20_init_1 rfl (lv_at hl 1 rfl) ?_
  refine g_aload_n (pc := 2) (o := l2) hx hb dX20_init_2 rfl (lv_at hl 2 rfl) ?_
  obtain ⟨a1, ea1, hf⟩ := bdo hf
  obtain ⟨v2, e2, hf⟩ := bdo hf
  refine g_get (pc := 3) (o := l2) (a := a1) (ci := 4) (k := 5) (v := va_rf v2) (C := RX16) (T := TX16) (N := 6) hx hb hts hown hE hk hH in_X16 rfl (by decide) (hts _ q1729) (fun _ h9 => h9) ea1 (rdR_o e2) dX20_init_3 ?_
  obtain ⟨_, S3, c3, n3, c2_3, n2_3, e3, hf, hC3, hN3⟩ := gbo hf
  refine g_callI (pc := 6) (o := (some l0)) (b := l0) (As := [.int l1, va_rf v2]) (rest := []) hc (mX13_init_c13 hk hJ (l0 := l0) (l1 := l1) (l2 := v2) e3) (cwI 2 hts (lw_meth q1613) rfl rfl rfl (hts _ q140) (hts _ q1932) (hts _ q1612) rfl hdiX13_init ⟨Nat.le_of_ble_eq_true rfl, Nat.le_of_ble_eq_true rfl⟩) rfl rfl hl.1 rfl (lv_room (Nat.le_of_ble_eq_true rfl)) dX20_init_6 hH hS (by omega) (by omega) (fun H locs hH hS => ?_)
  have hkc : kc + c3 + c2_3 ≤ mc := by omega
  have hks : ks + n3 + n2_3 ≤ ms := by omega
  refine lv_aload_n (pc := 9) hx hb dX20_init_9 rfl (lv_at hl 0 rfl) ?_
  refine lv_iload_n (pc := 10) hx hb dX20_init_10 rfl (lv_at hl 1 rfl) ?_
  refine g_aload_n (pc := 11) (o := l2) hx hb dX20_init_11 rfl (lv_at hl 2 rfl) ?_
  obtain ⟨v4, e4, hf⟩ := bdo hf
  refine g_get (pc := 12) (o := l2) (a := a1) (ci := 4) (k := 0) (v := va_rf v4) (C := RX16) (T := TX16) (N := 6) hx hb hts hown hE hk hH in_X16 rfl (by decide) (hts _ q1707) (fun _ h9 => h9) ea1 (rdR_o e4) dX20_init_12 ?_
  obtain ⟨a5, ea5, hf⟩ := bdo hf
  obtain ⟨v6, e6, hf⟩ := bdo hf
  refine g_get (pc := 15) (o := v4) (a := a5) (ci := 5) (k := 4) (v := .int v6) (C := RX11) (T := TX11) (N := 6) hx hb hts hown hE hk hH in_X11 rfl (by decide) (hts _ q1559) (fun _ h9 => h9) ea5 (rdI_o e6) dX20_init_15 ?_
  refine lv_isub (pc := 18) hx hb dX20_init_18 ?_
  obtain ⟨S7, e7, hf⟩ := bdo hf
  refine g_putF (pc := 19) (o := (some l0)) (a := l0) (ci := 13) (k := 3) (v := .int (l1 - v6)) (C := RX20) (T := TX20) (N := 4) (ty := .int) hx hb hts hown hE hk hH hS rfl in_X20 tyX20_ok nmX20 rfl (by decide) (hts _ q1933) (fun _ h9 => h9) rfl hnm rfl rfl rfl rfl rfl e7 dX20_init_19 (fun H locs hH hS => ?_)
  exact g_vret (pc := 22) hx hb hr hlk hH hS hkc hks hf dX20_init_22
theorem mX20_init {l : Launch} {G : gG} {Rp : gM → gM → Nat → Prop} (hk : rOK Rp) (hJ : JDK l G Rp) {S S2 : gS} {r2 : Unit} {C N : Nat} {l0 : Nat} {l1 : Int32} {l2 : Option Nat} (hf : fX20_init l0 l1 l2 S = some (r2, S2, C, N)) : gMet l yX20_init cX20_init 3 (none) 4 107 G Rp [.ref l0, .int l1, va_rf l2] S none S2 C N := by
  refine g_start (by decide) (by simp [lg_sl, va_rf_cat, cat_i, cat_j, cat_r]) (fun p e s m args below meth c ls hc hl hH => ?_)
  have hl : lv_has ls 3 [(0, .ref l0), (1, .int l1), (2, va_rf l2)] := by simpa [lv_args, va_rf_cat, cat_i, cat_j, cat_r] using hl
  exact wX20_init_b0 hk hJ hc l0 l1 l2 S _ _ ls 0 0 C N (by omega) (by omega) hH va_S.rf (lv_sub hl [0, 1, 2] rfl) hf
end
section
variable {r : Int32} {Sf : gS}
def fX1_ages_b117 (l0 : Nat) (l1 : Option Nat) (l2 : Option Nat) (t0 : Int32) (S : gS) : gO Int32 :=
  if t0 = 0 then
    zg t0 S
  else
    bd l2 fun a2 =>
    bd (rdR S a2 4 0) fun v3 =>
    nw S (cO 13 [.int 0, .null, .int 0, .int 0]) 4 fun S4 =>
    bd (rdI S4 l0 1 5) fun v5 =>
    gb (fX20_init S.2 v5 l2 S4) fun _ S6 =>
    bd (chk S6 l0 1) fun _ =>
    gb (fX1_buries l0 l1 v3 (some S.2) S6) fun _ S7 =>
    zg t0 S7
theorem wX1_ages_b117 (hk : rOK Rp) (hJ : JDK l G Rp) (hc : gC p s m args meth c G RX1 "ages" cX1_ages 4 (some .boolean)) (l0 : Nat) (l1 : Option Nat) (l2 : Option Nat) (t0 : Int32) (S : gS) (H : Heap) (locs : List Loc) (ls : Array Slot) (kc ks C N : Nat) (hkc : kc + C ≤ mc) (hks : ks + N ≤ ms) (hH : hp G Rp S H) (hS : va_S G.2.2.2 s.heap H locs) (hl : lv_has ls 4 [(0, .ref l0), (1, va_rf l1), (2, va_rf l2)]) (hf : fX1_ages_b117 l0 l1 l2 t0 S = some (r, Sf, C, N)) : W p l e (gR 17 586 mc ms) s m args below meth c H locs kc ks (gQ below G Rp (some (.int r)) Sf args s mc ms) (F0 m 117 ls [.int t0]) := by
  obtain ⟨hx, hb, hr, hlk, hml, hown, hts, hE, hA, hnm⟩ := hc
  have hc : gC p s m args meth c G RX1 "ages" cX1_ages 4 (some .boolean) := ⟨hx, hb, hr, hlk, hml, hown, hts, hE, hA, hnm⟩
  unfold fX1_ages_b117 at hf
  refine lv_istore_n (pc := 117) (i := 3) (lv' := [(3, .int t0), (0, .ref l0), (1, va_rf l1), (2, va_rf l2)]) hx hb dX1_ages_117 rfl hl (by decide) (by simp [va_rf_cat, cat_i, cat_j, cat_r] <;> rfl) (fun ls hl => ?_)
  refine lv_iload_n (pc := 118) hx hb dX1_ages_118 rfl (lv_at hl 0 rfl) ?_
  refine lv_if_eq (pc := 119) (tgt := 143) hx hb dX1_ages_119 (by decide) (fun c1 => ?_) (fun c1 => ?_)
  · rw [if_pos c1] at hf
    refine lv_iload_n (pc := 143) hx hb dX1_ages_143 rfl (lv_at hl 0 rfl) ?_
    exact g_zret (pc := 144) hx hb hr hlk hH hS hkc hks hf dX1_ages_144
  · rw [if_neg c1] at hf
    refine lv_aload_n (pc := 122) hx hb dX1_ages_122 rfl (lv_at hl 1 rfl) ?_
    refine g_aload_n (pc := 123) (o := l1) hx hb dX1_ages_123 rfl (lv_at hl 2 rfl) ?_
    refine g_aload_n (pc := 124) (o := l2) hx hb dX1_ages_124 rfl (lv_at hl 3 rfl) ?_
    obtain ⟨a2, ea2, hf⟩ := bdo hf
    obtain ⟨v3, e3, hf⟩ := bdo hf
    refine g_get (pc := 125) (o := l2) (a := a2) (ci := 4) (k := 0) (v := va_rf v3) (C := RX16) (T := TX16) (N := 6) hx hb hts hown hE hk hH in_X16 rfl (by decide) (hts _ q1710) (fun _ h9 => h9) ea2 (rdR_o e3) dX1_ages_125 ?_
    obtain ⟨S4, c2_4, n2_4, eS4, hf, hC4, hN4⟩ := nwo hf
    refine g_newo (pc := 128) (ci := 13) (C := RX20) (T := TX20) (N := 4) (fs := [.int 0, .null, .int 0, .int 0]) hx hb hts hown hE hA hk hH hS in_X20 tyX20_ok q1927 q1928 q148 rfl (fun j hj => by rcases (show j = 0 ∨ j = 1 ∨ j = 2 ∨ j = 3 by omega) with rfl | rfl | rfl | rfl <;> rfl) eS4 (Nat.le_trans (by omega) hkc) (Nat.le_trans (by omega) hks) dX1_ages_128 (fun H hH hS => ?_)
    have hkc : kc + 1 + c2_4 ≤ mc := by omega
    have hks : ks + 4 + n2_4 ≤ ms := by omega
    refine lv_dup (pc := 131) hx hb dX1_ages_131 rfl ?_
    refine lv_aload_n (pc := 132) hx hb dX1_ages_132 rfl (lv_at hl 1 rfl) ?_
    obtain ⟨v5, e5, hf⟩ := bdo hf
    refine g_get (pc := 133) (o := (some l0)) (a := l0) (ci := 1) (k := 5) (v := .int v5) (C := RX1) (T := TX1) (N := 7) hx hb hts hown hE hk hH in_X1 rfl (by decide) (hts _ q241) (fun _ h9 => h9) rfl (rdI_o e5) dX1_ages_133 ?_
    refine g_aload_n (pc := 136) (o := l2) hx hb dX1_ages_136 rfl (lv_at hl 3 rfl) ?_
    obtain ⟨_, S6, c6, n6, c2_6, n2_6, e6, hf, hC6, hN6⟩ := gbo hf
    refine g_callI (pc := 137) (o := (some S.2)) (b := S.2) (As := [.int v5, va_rf l2]) (rest := [.ref S.2, va_rf v3, va_rf l1, .ref l0]) hc (mX20_init hk hJ (l0 := S.2) (l1 := v5) (l2 := l2) e6) (cwI 2 hts (lw_meth q1931) rfl rfl rfl (hts _ q148) (hts _ q1929) (hts _ q1930) rfl hdiX20_init ⟨Nat.le_of_ble_eq_true rfl, Nat.le_of_ble_eq_true rfl⟩) rfl rfl hl.1 rfl (lv_room (by simp [va_rf_cat, cat_i, cat_j, cat_r])) dX1_ages_137 hH hS (by omega) (by omega) (fun H locs hH hS => ?_)
    have hkc : kc + 1 + c6 + c2_6 ≤ mc := by omega
    have hks : ks + 4 + n6 + n2_6 ≤ ms := by omega
    obtain ⟨_, ek7, hf⟩ := bdo hf
    obtain ⟨_, S7, c7, n7, c2_7, n2_7, e7, hf, hC7, hN7⟩ := gbo hf
    refine g_callV (pc := 140) (o := (some l0)) (b := l0) (As := [va_rf l1, va_rf v3, .ref S.2]) (rest := []) (st1 := []) hc (mX1_buries hk hJ (l0 := l0) (l1 := l1) (l2 := v3) (l3 := (some S.2)) e7) (cwV 3 hts (lw_V q1637 q1639 qs25 q98 q1640) rfl rfl rfl hdX1_buries ⟨Nat.le_of_ble_eq_true rfl, Nat.le_of_ble_eq_true rfl⟩) (g_recv hE hk hH (ci := 1) (q := (RX1, TX1, 7)) rfl (chk_o ek7).choose_spec) rfl rfl hl.1 rfl rfl (lv_room (Nat.le_of_ble_eq_true rfl)) dX1_ages_140 hH hS (by omega) (by omega) (fun H locs hH hS => ?_)
    have hkc : kc + 1 + c6 + c7 + c2_7 ≤ mc := by omega
    have hks : ks + 4 + n6 + n7 + n2_7 ≤ ms := by omega
    refine lv_iload_n (pc := 143) hx hb dX1_ages_143 rfl (lv_at hl 0 rfl) ?_
    exact g_zret (pc := 144) hx hb hr hlk hH hS hkc hks hf dX1_ages_144
def fX1_ages_b116 (l0 : Nat) (l1 : Option Nat) (l2 : Option Nat) (S : gS) : gO Int32 :=
  fX1_ages_b117 l0 l1 l2 (nI 0) S
theorem wX1_ages_b116 (hk : rOK Rp) (hJ : JDK l G Rp) (hc : gC p s m args meth c G RX1 "ages" cX1_ages 4 (some .boolean)) (l0 : Nat) (l1 : Option Nat) (l2 : Option Nat) (S : gS) (H : Heap) (locs : List Loc) (ls : Array Slot) (kc ks C N : Nat) (hkc : kc + C ≤ mc) (hks : ks + N ≤ ms) (hH : hp G Rp S H) (hS : va_S G.2.2.2 s.heap H locs) (hl : lv_has ls 4 [(0, .ref l0), (1, va_rf l1), (2, va_rf l2)]) (hf : fX1_ages_b116 l0 l1 l2 S = some (r, Sf, C, N)) : W p l e (gR 17 586 mc ms) s m args below meth c H locs kc ks (gQ below G Rp (some (.int r)) Sf args s mc ms) (F0 m 116 ls []) := by
  obtain ⟨hx, hb, hr, hlk, hml, hown, hts, hE, hA, hnm⟩ := hc
  have hc : gC p s m args meth c G RX1 "ages" cX1_ages 4 (some .boolean) := ⟨hx, hb, hr, hlk, hml, hown, hts, hE, hA, hnm⟩
  unfold fX1_ages_b116 at hf
  refine lv_iconst (pc := 116) (v := nI 0) hx hb dX1_ages_116 rfl ?_
  exact wX1_ages_b117 hk hJ hc l0 l1 l2 (nI 0) S _ _ ls _ _ _ _ hkc hks hH hS (lv_sub hl [0, 1, 2] rfl) hf
def fX1_ages_b79 (l0 : Nat) (l1 : Option Nat) (l2 : Option Nat) (S : gS) : gO Int32 :=
  bd l1 fun a1 =>
  bd (rdI S a1 3 5) fun v2 =>
  if v2 ≤ 0 then
    fX1_ages_b116 l0 l1 l2 S
  else
    bd l2 fun a4 =>
    bd (rdI S a4 4 1) fun v5 =>
    if v5 = 0 then
      bd (rdI S l0 1 5) fun v7 =>
      bd (rdR S a4 4 0) fun v8 =>
      bd v8 fun a9 =>
      bd (rdI S a9 5 4) fun v10 =>
      bd (rdI S a1 3 5) fun v11 =>
      if (v7 - v10) < v11 then
        fX1_ages_b116 l0 l1 l2 S
      else
        fX1_ages_b117 l0 l1 l2 (nI 1) S
    else
      fX1_ages_b116 l0 l1 l2 S
theorem wX1_ages_b79 (hk : rOK Rp) (hJ : JDK l G Rp) (hc : gC p s m args meth c G RX1 "ages" cX1_ages 4 (some .boolean)) (l0 : Nat) (l1 : Option Nat) (l2 : Option Nat) (S : gS) (H : Heap) (locs : List Loc) (ls : Array Slot) (kc ks C N : Nat) (hkc : kc + C ≤ mc) (hks : ks + N ≤ ms) (hH : hp G Rp S H) (hS : va_S G.2.2.2 s.heap H locs) (hl : lv_has ls 4 [(0, .ref l0), (1, va_rf l1), (2, va_rf l2)]) (hf : fX1_ages_b79 l0 l1 l2 S = some (r, Sf, C, N)) : W p l e (gR 17 586 mc ms) s m args below meth c H locs kc ks (gQ below G Rp (some (.int r)) Sf args s mc ms) (F0 m 79 ls []) := by
  obtain ⟨hx, hb, hr, hlk, hml, hown, hts, hE, hA, hnm⟩ := hc
  have hc : gC p s m args meth c G RX1 "ages" cX1_ages 4 (some .boolean) := ⟨hx, hb, hr, hlk, hml, hown, hts, hE, hA, hnm⟩
  unfold fX1_ages_b79 at hf
  refine g_aload_n (pc := 79) (o := l1) hx hb dX1_ages_79 rfl (lv_at hl 1 rfl) ?_
  obtain ⟨a1, ea1, hf⟩ := bdo hf
  obtain ⟨v2, e2, hf⟩ := bdo hf
  refine g_get (pc := 80) (o := l1) (a := a1) (ci := 3) (k := 5) (v := .int v2) (C := RX8) (T := TX8) (N := 13) hx hb hts hown hE hk hH in_X8 rfl (by decide) (hts _ q1163) (fun _ h9 => h9) ea1 (rdI_o e2) dX1_ages_80 ?_
  refine lv_if_le (pc := 83) (tgt := 116) hx hb dX1_ages_83 (by decide) (fun c3 => ?_) (fun c3 => ?_)
  · rw [if_pos c3] at hf
    exact wX1_ages_b116 hk hJ hc l0 l1 l2 S _ _ ls _ _ _ _ hkc hks hH hS (lv_sub hl [0, 1, 2] rfl) hf
  · rw [if_neg c3] at hf
    refine g_aload_n (pc := 86) (o := l2) hx hb dX1_ages_86 rfl (lv_at hl 2 rfl) ?_
    obtain ⟨a4, ea4, hf⟩ := bdo hf
    obtain ⟨v5, e5, hf⟩ := bdo hf
    refine g_get (pc := 87) (o := l2) (a := a4) (ci := 4) (k := 1) (v := .int v5) (C := RX16) (T := TX16) (N := 6) hx hb hts hown hE hk hH in_X16 rfl (by decide) (hts _ q1715) (fun _ h9 => h9) ea4 (rdI_o e5) dX1_ages_87 ?_
    refine lv_if_ne (pc := 90) (tgt := 116) hx hb dX1_ages_90 (by decide) (fun c6 => ?_) (fun c6 => ?_)
    · rw [if_neg c6] at hf
      exact wX1_ages_b116 hk hJ hc l0 l1 l2 S _ _ ls _ _ _ _ hkc hks hH hS (lv_sub hl [0, 1, 2] rfl) hf
    · rw [if_pos c6] at hf
      refine lv_aload_n (pc := 93) hx hb dX1_ages_93 rfl (lv_at hl 0 rfl) ?_
      obtain ⟨v7, e7, hf⟩ := bdo hf
      refine g_get (pc := 94) (o := (some l0)) (a := l0) (ci := 1) (k := 5) (v := .int v7) (C := RX1) (T := TX1) (N := 7) hx hb hts hown hE hk hH in_X1 rfl (by decide) (hts _ q241) (fun _ h9 => h9) rfl (rdI_o e7) dX1_ages_94 ?_
      refine g_aload_n (pc := 97) (o := l2) hx hb dX1_ages_97 rfl (lv_at hl 2 rfl) ?_
      obtain ⟨v8, e8, hf⟩ := bdo hf
      refine g_get (pc := 98) (o := l2) (a := a4) (ci := 4) (k := 0) (v := va_rf v8) (C := RX16) (T := TX16) (N := 6) hx hb hts hown hE hk hH in_X16 rfl (by decide) (hts _ q1710) (fun _ h9 => h9) ea4 (rdR_o e8) dX1_ages_98 ?_
      obtain ⟨a9, ea9, hf⟩ := bdo hf
      obtain ⟨v10, e10, hf⟩ := bdo hf
      refine g_get (pc := 101) (o := v8) (a := a9) (ci := 5) (k := 4) (v := .int v10) (C := RX11) (T := TX11) (N := 6) hx hb hts hown hE hk hH in_X11 rfl (by decide) (hts _ q1560) (fun _ h9 => h9) ea9 (rdI_o e10) dX1_ages_101 ?_
      refine lv_isub (pc := 104) hx hb dX1_ages_104 ?_
      refine g_aload_n (pc := 105) (o := l1) hx hb dX1_ages_105 rfl (lv_at hl 1 rfl) ?_
      obtain ⟨v11, e11, hf⟩ := bdo hf
      refine g_get (pc := 106) (o := l1) (a := a1) (ci := 3) (k := 5) (v := .int v11) (C := RX8) (T := TX8) (N := 13) hx hb hts hown hE hk hH in_X8 rfl (by decide) (hts _ q1163) (fun _ h9 => h9) ea1 (rdI_o e11) dX1_ages_106 ?_
      refine lv_icmp_lt (pc := 109) (tgt := 116) hx hb dX1_ages_109 (by decide) (fun c12 => ?_) (fun c12 => ?_)
      · rw [if_pos c12] at hf
        exact wX1_ages_b116 hk hJ hc l0 l1 l2 S _ _ ls _ _ _ _ hkc hks hH hS (lv_sub hl [0, 1, 2] rfl) hf
      · rw [if_neg c12] at hf
        refine lv_iconst (pc := 112) (v := nI 1) hx hb dX1_ages_112 rfl ?_
        refine lv_goto (pc := 113) (tgt := 117) hx hb dX1_ages_113 (by decide) ?_
        exact wX1_ages_b117 hk hJ hc l0 l1 l2 (nI 1) S _ _ ls _ _ _ _ hkc hks hH hS (lv_sub hl [0, 1, 2] rfl) hf
def fX1_ages_b56 (l0 : Nat) (l1 : Option Nat) (l2 : Option Nat) (S : gS) : gO Int32 :=
  bd l2 fun a1 =>
  bd (rdI S a1 4 1) fun v2 =>
  if v2 = (nI 1) then
    bd (rdI S a1 4 2) fun v4 =>
    bd (rdI S l0 1 5) fun v5 =>
    if v5 < v4 then
      fX1_ages_b79 l0 l1 l2 S
    else
      bd (chk S a1 4) fun _ =>
      gb (fX16_readies a1 S) fun _ S7 =>
      fX1_ages_b79 l0 l1 l2 S7
  else
    fX1_ages_b79 l0 l1 l2 S
theorem wX1_ages_b56 (hk : rOK Rp) (hJ : JDK l G Rp) (hc : gC p s m args meth c G RX1 "ages" cX1_ages 4 (some .boolean)) (l0 : Nat) (l1 : Option Nat) (l2 : Option Nat) (S : gS) (H : Heap) (locs : List Loc) (ls : Array Slot) (kc ks C N : Nat) (hkc : kc + C ≤ mc) (hks : ks + N ≤ ms) (hH : hp G Rp S H) (hS : va_S G.2.2.2 s.heap H locs) (hl : lv_has ls 4 [(0, .ref l0), (1, va_rf l1), (2, va_rf l2)]) (hf : fX1_ages_b56 l0 l1 l2 S = some (r, Sf, C, N)) : W p l e (gR 17 586 mc ms) s m args below meth c H locs kc ks (gQ below G Rp (some (.int r)) Sf args s mc ms) (F0 m 56 ls []) := by
  obtain ⟨hx, hb, hr, hlk, hml, hown, hts, hE, hA, hnm⟩ := hc
  have hc : gC p s m args meth c G RX1 "ages" cX1_ages 4 (some .boolean) := ⟨hx, hb, hr, hlk, hml, hown, hts, hE, hA, hnm⟩
  unfold fX1_ages_b56 at hf
  refine g_aload_n (pc := 56) (o := l2) hx hb dX1_ages_56 rfl (lv_at hl 2 rfl) ?_
  obtain ⟨a1, ea1, hf⟩ := bdo hf
  obtain ⟨v2, e2, hf⟩ := bdo hf
  refine g_get (pc := 57) (o := l2) (a := a1) (ci := 4) (k := 1) (v := .int v2) (C := RX16) (T := TX16) (N := 6) hx hb hts hown hE hk hH in_X16 rfl (by decide) (hts _ q1715) (fun _ h9 => h9) ea1 (rdI_o e2) dX1_ages_57 ?_
  refine lv_iconst (pc := 60) (v := nI 1) hx hb dX1_ages_60 rfl ?_
  refine lv_icmp_ne (pc := 61) (tgt := 79) hx hb dX1_ages_61 (by decide) (fun c3 => ?_) (fun c3 => ?_)
  · rw [if_neg c3] at hf
    exact wX1_ages_b79 hk hJ hc l0 l1 l2 S _ _ ls _ _ _ _ hkc hks hH hS (lv_sub hl [0, 1, 2] rfl) hf
  · rw [if_pos c3] at hf
    refine g_aload_n (pc := 64) (o := l2) hx hb dX1_ages_64 rfl (lv_at hl 2 rfl) ?_
    obtain ⟨v4, e4, hf⟩ := bdo hf
    refine g_get (pc := 65) (o := l2) (a := a1) (ci := 4) (k := 2) (v := .int v4) (C := RX16) (T := TX16) (N := 6) hx hb hts hown hE hk hH in_X16 rfl (by decide) (hts _ q1718) (fun _ h9 => h9) ea1 (rdI_o e4) dX1_ages_65 ?_
    refine lv_aload_n (pc := 68) hx hb dX1_ages_68 rfl (lv_at hl 0 rfl) ?_
    obtain ⟨v5, e5, hf⟩ := bdo hf
    refine g_get (pc := 69) (o := (some l0)) (a := l0) (ci := 1) (k := 5) (v := .int v5) (C := RX1) (T := TX1) (N := 7) hx hb hts hown hE hk hH in_X1 rfl (by decide) (hts _ q241) (fun _ h9 => h9) rfl (rdI_o e5) dX1_ages_69 ?_
    refine lv_icmp_gt (pc := 72) (tgt := 79) hx hb dX1_ages_72 (by decide) (fun c6 => ?_) (fun c6 => ?_)
    · rw [if_pos c6] at hf
      exact wX1_ages_b79 hk hJ hc l0 l1 l2 S _ _ ls _ _ _ _ hkc hks hH hS (lv_sub hl [0, 1, 2] rfl) hf
    · rw [if_neg c6] at hf
      refine g_aload_n (pc := 75) (o := l2) hx hb dX1_ages_75 rfl (lv_at hl 2 rfl) ?_
      obtain ⟨_, ek7, hf⟩ := bdo hf
      obtain ⟨_, S7, c7, n7, c2_7, n2_7, e7, hf, hC7, hN7⟩ := gbo hf
      refine g_callV (pc := 76) (o := l2) (b := a1) (As := []) (rest := []) (st1 := []) hc (mX16_readies hk hJ (l0 := a1) e7) (cwV 0 hts (lw_V q1517 q1518 q1519 q144 q1520) rfl rfl rfl hdX16_readies ⟨Nat.le_of_ble_eq_true rfl, Nat.le_of_ble_eq_true rfl⟩) (g_recv hE hk hH (ci := 4) (q := (RX16, TX16, 6)) rfl (chk_o ek7).choose_spec) ea1 rfl hl.1 rfl rfl (lv_room (Nat.le_of_ble_eq_true rfl)) dX1_ages_76 hH hS (by omega) (by omega) (fun H locs hH hS => ?_)
      have hkc : kc + c7 + c2_7 ≤ mc := by omega
      have hks : ks + n7 + n2_7 ≤ ms := by omega
      exact wX1_ages_b79 hk hJ hc l0 l1 l2 S7 _ _ ls _ _ _ _ hkc hks hH hS (lv_sub hl [0, 1, 2] rfl) hf
def fX1_ages (l0 : Nat) (l1 : Option Nat) (l2 : Option Nat) (S : gS) : gO Int32 :=
  bd l2 fun a1 =>
  bd (rdI S a1 4 1) fun v2 =>
  if v2 = (nI 2) then
    bd (rdI S a1 4 2) fun v4 =>
    bd (rdI S l0 1 5) fun v5 =>
    if v5 < v4 then
      fX1_ages_b56 l0 l1 l2 S
    else
      bd (chk S l0 1) fun _ =>
      gb (fX1_returns l0 l2 S) fun v7 S7 =>
      bd v7 fun a9 =>
      bd (chk S7 a9 6) fun _ =>
      gb (fX10_gains a9 S7) fun _ S8 =>
      bd (rdI S8 a1 4 3) fun v10 =>
      bd (wr S8 a1 4 3 (.int (v10 + (nI 1)))) fun S11 =>
      nw S11 (cO 12 [.int 0, .null, .int 0, .int 0, .int 0]) 5 fun S12 =>
      bd (rdI S12 l0 1 5) fun v13 =>
      gb (fX19_init S11.2 v13 l2 S12) fun _ S14 =>
      bd (chk S14 l0 1) fun _ =>
      gb (fX1_fails l0 l1 l2 (some S11.2) S14) fun v15 S15 =>
      zg v15 S15
  else
    fX1_ages_b56 l0 l1 l2 S
theorem wX1_ages_b0 (hk : rOK Rp) (hJ : JDK l G Rp) (hc : gC p s m args meth c G RX1 "ages" cX1_ages 4 (some .boolean)) (l0 : Nat) (l1 : Option Nat) (l2 : Option Nat) (S : gS) (H : Heap) (locs : List Loc) (ls : Array Slot) (kc ks C N : Nat) (hkc : kc + C ≤ mc) (hks : ks + N ≤ ms) (hH : hp G Rp S H) (hS : va_S G.2.2.2 s.heap H locs) (hl : lv_has ls 4 [(0, .ref l0), (1, va_rf l1), (2, va_rf l2)]) (hf : fX1_ages l0 l1 l2 S = some (r, Sf, C, N)) : W p l e (gR 17 586 mc ms) s m args below meth c H locs kc ks (gQ below G Rp (some (.int r)) Sf args s mc ms) (F0 m 0 ls []) := by
  obtain ⟨hx, hb, hr, hlk, hml, hown, hts, hE, hA, hnm⟩ := hc
  have hc : gC p s m args meth c G RX1 "ages" cX1_ages 4 (some .boolean) := ⟨hx, hb, hr, hlk, hml, hown, hts, hE, hA, hnm⟩
  unfold fX1_ages at hf
  refine g_aload_n (pc := 0) (o := l2) hx hb dX1_ages_0 rfl (lv_at hl 2 rfl) ?_
  obtain ⟨a1, ea1, hf⟩ := bdo hf
  obtain ⟨v2, e2, hf⟩ := bdo hf
  refine g_get (pc := 1) (o := l2) (a := a1) (ci := 4) (k := 1) (v := .int v2) (C := RX16) (T := TX16) (N := 6) hx hb hts hown hE hk hH in_X16 rfl (by decide) (hts _ q1715) (fun _ h9 => h9) ea1 (rdI_o e2) dX1_ages_1 ?_
  refine lv_iconst (pc := 4) (v := nI 2) hx hb dX1_ages_4 rfl ?_
  refine lv_icmp_ne (pc := 5) (tgt := 56) hx hb dX1_ages_5 (by decide) (fun c3 => ?_) (fun c3 => ?_)
  · rw [if_neg c3] at hf
    exact wX1_ages_b56 hk hJ hc l0 l1 l2 S _ _ ls _ _ _ _ hkc hks hH hS (lv_sub hl [0, 1, 2] rfl) hf
  · rw [if_pos c3] at hf
    refine g_aload_n (pc := 8) (o := l2) hx hb dX1_ages_8 rfl (lv_at hl 2 rfl) ?_
    obtain ⟨v4, e4, hf⟩ := bdo hf
    refine g_get (pc := 9) (o := l2) (a := a1) (ci := 4) (k := 2) (v := .int v4) (C := RX16) (T := TX16) (N := 6) hx hb hts hown hE hk hH in_X16 rfl (by decide) (hts _ q1718) (fun _ h9 => h9) ea1 (rdI_o e4) dX1_ages_9 ?_
    refine lv_aload_n (pc := 12) hx hb dX1_ages_12 rfl (lv_at hl 0 rfl) ?_
    obtain ⟨v5, e5, hf⟩ := bdo hf
    refine g_get (pc := 13) (o := (some l0)) (a := l0) (ci := 1) (k := 5) (v := .int v5) (C := RX1) (T := TX1) (N := 7) hx hb hts hown hE hk hH in_X1 rfl (by decide) (hts _ q241) (fun _ h9 => h9) rfl (rdI_o e5) dX1_ages_13 ?_
    refine lv_icmp_gt (pc := 16) (tgt := 56) hx hb dX1_ages_16 (by decide) (fun c6 => ?_) (fun c6 => ?_)
    · rw [if_pos c6] at hf
      exact wX1_ages_b56 hk hJ hc l0 l1 l2 S _ _ ls _ _ _ _ hkc hks hH hS (lv_sub hl [0, 1, 2] rfl) hf
    · rw [if_neg c6] at hf
      refine lv_aload_n (pc := 19) hx hb dX1_ages_19 rfl (lv_at hl 0 rfl) ?_
      refine g_aload_n (pc := 20) (o := l2) hx hb dX1_ages_20 rfl (lv_at hl 2 rfl) ?_
      obtain ⟨_, ek7, hf⟩ := bdo hf
      obtain ⟨v7, S7, c7, n7, c2_7, n2_7, e7, hf, hC7, hN7⟩ := gbo hf
      refine g_callV (pc := 21) (o := (some l0)) (b := l0) (As := [va_rf l2]) (rest := []) (st1 := [va_rf v7]) hc (mX1_returns hk hJ (l0 := l0) (l1 := l2) e7) (cwV 1 hts (lw_V q1789 q1791 qs28 q98 q1792) rfl rfl rfl hdX1_returns ⟨Nat.le_of_ble_eq_true rfl, Nat.le_of_ble_eq_true rfl⟩) (g_recv hE hk hH (ci := 1) (q := (RX1, TX1, 7)) rfl (chk_o ek7).choose_spec) rfl rfl hl.1 rfl rfl (lv_room (Nat.le_of_ble_eq_true rfl)) dX1_ages_21 hH hS (by omega) (by omega) (fun H locs hH hS => ?_)
      have hkc : kc + c7 + c2_7 ≤ mc := by omega
      have hks : ks + n7 + n2_7 ≤ ms := by omega
      obtain ⟨a9, ea9, hf⟩ := bdo hf
      obtain ⟨_, ek8, hf⟩ := bdo hf
      obtain ⟨_, S8, c8, n8, c2_8, n2_8, e8, hf, hC8, hN8⟩ := gbo hf
      refine g_callV (pc := 24) (o := v7) (b := a9) (As := []) (rest := []) (st1 := []) hc (mX10_gains hk hJ (l0 := a9) e8) (cwV 0 hts (lw_V q1793 q1794 q1795 q134 q1796) rfl rfl rfl hdX10_gains ⟨Nat.le_of_ble_eq_true rfl, Nat.le_of_ble_eq_true rfl⟩) (g_recv hE hk hH (ci := 6) (q := (RX10, TX10, 5)) rfl (chk_o ek8).choose_spec) ea9 rfl hl.1 rfl rfl (lv_room (Nat.le_of_ble_eq_true rfl)) dX1_ages_24 hH hS (by omega) (by omega) (fun H locs hH hS => ?_)
      have hkc : kc + c7 + c8 + c2_8 ≤ mc := by omega
      have hks : ks + n7 + n8 + n2_8 ≤ ms := by omega
      refine g_aload_n (pc := 27) (o := l2) hx hb dX1_ages_27 rfl (lv_at hl 2 rfl) ?_
      refine lv_dup (pc := 28) hx hb dX1_ages_28 (va_rf_cat _) ?_
      obtain ⟨v10, e10, hf⟩ := bdo hf
      refine g_get (pc := 29) (o := l2) (a := a1) (ci := 4) (k := 3) (v := .int v10) (C := RX16) (T := TX16) (N := 6) hx hb hts hown hE hk hH in_X16 rfl (by decide) (hts _ q1722) (fun _ h9 => h9) ea1 (rdI_o e10) dX1_ages_29 ?_
      refine lv_iconst (pc := 32) (v := nI 1) hx hb dX1_ages_32 rfl ?_
      refine lv_iadd (pc := 33) hx hb dX1_ages_33 ?_
      obtain ⟨S11, e11, hf⟩ := bdo hf
      refine g_put (pc := 34) (o := l2) (a := a1) (ci := 4) (k := 3) (v := .int (v10 + (nI 1))) (C := RX16) (T := TX16) (N := 6) (ty := .int) hx hb hts hown hE hk hH hS rfl in_X16 tyX16_ok nmX16 rfl (by decide) (hts _ q1722) (fun _ h9 => h9) rfl rfl rfl rfl ea1 e11 dX1_ages_34 (fun H locs hH hS => ?_)
      refine lv_aload_n (pc := 37) hx hb dX1_ages_37 rfl (lv_at hl 0 rfl) ?_
      refine g_aload_n (pc := 38) (o := l1) hx hb dX1_ages_38 rfl (lv_at hl 1 rfl) ?_
      refine g_aload_n (pc := 39) (o := l2) hx hb dX1_ages_39 rfl (lv_at hl 2 rfl) ?_
      obtain ⟨S12, c2_12, n2_12, eS12, hf, hC12, hN12⟩ := nwo hf
      refine g_newo (pc := 40) (ci := 12) (C := RX19) (T := TX19) (N := 5) (fs := [.int 0, .null, .int 0, .int 0, .int 0]) hx hb hts hown hE hA hk hH hS in_X19 tyX19_ok q1916 q1917 q147 rfl (fun j hj => by rcases (show j = 0 ∨ j = 1 ∨ j = 2 ∨ j = 3 ∨ j = 4 by omega) with rfl | rfl | rfl | rfl | rfl <;> rfl) eS12 (Nat.le_trans (by omega) hkc) (Nat.le_trans (by omega) hks) dX1_ages_40 (fun H hH hS => ?_)
      have hkc : kc + c7 + c8 + 1 + c2_12 ≤ mc := by omega
      have hks : ks + n7 + n8 + 5 + n2_12 ≤ ms := by omega
      refine lv_dup (pc := 43) hx hb dX1_ages_43 rfl ?_
      refine lv_aload_n (pc := 44) hx hb dX1_ages_44 rfl (lv_at hl 0 rfl) ?_
      obtain ⟨v13, e13, hf⟩ := bdo hf
      refine g_get (pc := 45) (o := (some l0)) (a := l0) (ci := 1) (k := 5) (v := .int v13) (C := RX1) (T := TX1) (N := 7) hx hb hts hown hE hk hH in_X1 rfl (by decide) (hts _ q241) (fun _ h9 => h9) rfl (rdI_o e13) dX1_ages_45 ?_
      refine g_aload_n (pc := 48) (o := l2) hx hb dX1_ages_48 rfl (lv_at hl 2 rfl) ?_
      obtain ⟨_, S14, c14, n14, c2_14, n2_14, e14, hf, hC14, hN14⟩ := gbo hf
      refine g_callI (pc := 49) (o := (some S11.2)) (b := S11.2) (As := [.int v13, va_rf l2]) (rest := [.ref S11.2, va_rf l2, va_rf l1, .ref l0]) hc (mX19_init hk hJ (l0 := S11.2) (l1 := v13) (l2 := l2) e14) (cwI 2 hts (lw_meth q1920) rfl rfl rfl (hts _ q147) (hts _ q1918) (hts _ q1919) rfl hdiX19_init ⟨Nat.le_of_ble_eq_true rfl, Nat.le_of_ble_eq_true rfl⟩) rfl rfl hl.1 rfl (lv_room (by simp [va_rf_cat, cat_i, cat_j, cat_r])) dX1_ages_49 hH hS (by omega) (by omega) (fun H locs hH hS => ?_)
      have hkc : kc + c7 + c8 + 1 + c14 + c2_14 ≤ mc := by omega
      have hks : ks + n7 + n8 + 5 + n14 + n2_14 ≤ ms := by omega
      obtain ⟨_, ek15, hf⟩ := bdo hf
      obtain ⟨v15, S15, c15, n15, c2_15, n2_15, e15, hf, hC15, hN15⟩ := gbo hf
      refine g_callV (pc := 52) (o := (some l0)) (b := l0) (As := [va_rf l1, va_rf l2, .ref S11.2]) (rest := []) (st1 := [.int v15]) hc (mX1_fails hk hJ (l0 := l0) (l1 := l1) (l2 := l2) (l3 := (some S11.2)) e15) (cwV 3 hts (lw_V q1898 q1900 qs31 q98 q1901) rfl rfl rfl hdX1_fails ⟨Nat.le_of_ble_eq_true rfl, Nat.le_of_ble_eq_true rfl⟩) (g_recv hE hk hH (ci := 1) (q := (RX1, TX1, 7)) rfl (chk_o ek15).choose_spec) rfl rfl hl.1 rfl rfl (lv_room (Nat.le_of_ble_eq_true rfl)) dX1_ages_52 hH hS (by omega) (by omega) (fun H locs hH hS => ?_)
      have hkc : kc + c7 + c8 + 1 + c14 + c15 + c2_15 ≤ mc := by omega
      have hks : ks + n7 + n8 + 5 + n14 + n15 + n2_15 ≤ ms := by omega
      exact g_zret (pc := 55) hx hb hr hlk hH hS hkc hks hf dX1_ages_55
theorem mX1_ages {l : Launch} {G : gG} {Rp : gM → gM → Nat → Prop} (hk : rOK Rp) (hJ : JDK l G Rp) {S S2 : gS} {r2 : Int32} {C N : Nat} {l0 : Nat} {l1 : Option Nat} {l2 : Option Nat} (hf : fX1_ages l0 l1 l2 S = some (r2, S2, C, N)) : gMet l yX1_ages cX1_ages 4 (some .boolean) 17 586 G Rp [.ref l0, va_rf l1, va_rf l2] S (some (.int r2)) S2 C N := by
  refine g_start (by decide) (by simp [lg_sl, va_rf_cat, cat_i, cat_j, cat_r]) (fun p e s m args below meth c ls hc hl hH => ?_)
  have hl : lv_has ls 4 [(0, .ref l0), (1, va_rf l1), (2, va_rf l2)] := by simpa [lv_args, va_rf_cat, cat_i, cat_j, cat_r] using hl
  exact wX1_ages_b0 hk hJ hc l0 l1 l2 S _ _ ls 0 0 C N (by omega) (by omega) hH va_S.rf (lv_sub hl [0, 1, 2] rfl) hf
end
section
variable {r : Int32} {Sf : gS}
def fX1_passes_b40 (k14 : Nat → Int32 → Int32 → gS → gO Int32) : Nat → Nat → Int32 → Int32 → (Option Nat) → Int32 → gS → gO Int32
  | 0, _, _, _, _, _, _ => none
  | n + 1, l0, l1, l2, l3, l4, S =>
    bd l3 fun a1 =>
    bd (rdR S a1 3 7) fun v2 =>
    bd v2 fun a4 =>
    gb (nAL_size a4  S) fun v3 S3 =>
    if v3 ≤ l4 then
      k14 l0 l1 (l2 + (nI 1)) S3
    else
      bd (rdR S3 a1 3 7) fun v6 =>
      bd v6 fun a8 =>
      gb (nAL_get a8 l4 S3) fun v7 S7 =>
      bd (ckc S7 v7 4) fun _ =>
      bd (chk S7 l0 1) fun _ =>
      gb (fX1_ages l0 l3 v7 S7) fun v10 S10 =>
      if v10 = 0 then
        fX1_passes_b40 k14 n l0 l1 l2 l3 (l4 + (nI 1)) S10
      else
        bd (rdR S10 a1 3 7) fun v12 =>
        bd v12 fun a14 =>
        gb (nAL_removeI a14 l4 S10) fun v13 S13 =>
        fX1_passes_b40 k14 n l0 (l1 + (nI 1)) l2 l3 l4 S13
theorem wX1_passes_b40 (hk : rOK Rp) (hJ : JDK l G Rp) (hc : gC p s m args meth c G RX1 "passes" cX1_passes 5 (some .int)) (k14 : Nat → Int32 → Int32 → gS → gO Int32) (h14 : ∀ (l0 : Nat) (l1 : Int32) (l2 : Int32) (S : gS) (H : Heap) (locs : List Loc) (ls : Array Slot) (kc ks C N : Nat), kc + C ≤ mc → ks + N ≤ ms → hp G Rp S H → va_S G.2.2.2 s.heap H locs → lv_has ls 5 [(0, .ref l0), (1, .int l1), (2, .int l2)] → k14 l0 l1 l2 S = some (r, Sf, C, N) → W p l e (gR 18 609 mc ms) s m args below meth c H locs kc ks (gQ below G Rp (some (.int r)) Sf args s mc ms) (F0 m 14 ls [])) : ∀ (n : Nat) (l0 : Nat) (l1 : Int32) (l2 : Int32) (l3 : Option Nat) (l4 : Int32) (S : gS) (H : Heap) (locs : List Loc) (ls : Array Slot) (kc ks C N : Nat), kc + C ≤ mc → ks + N ≤ ms → hp G Rp S H → va_S G.2.2.2 s.heap H locs → lv_has ls 5 [(0, .ref l0), (1, .int l1), (2, .int l2), (3, va_rf l3), (4, .int l4)] → fX1_passes_b40 k14 n l0 l1 l2 l3 l4 S = some (r, Sf, C, N) → W p l e (gR 18 609 mc ms) s m args below meth c H locs kc ks (gQ below G Rp (some (.int r)) Sf args s mc ms) (F0 m 40 ls []) := by
  obtain ⟨hx, hb, hr, hlk, hml, hown, hts, hE, hA, hnm⟩ := hc
  have hc : gC p s m args meth c G RX1 "passes" cX1_passes 5 (some .int) := ⟨hx, hb, hr, hlk, hml, hown, hts, hE, hA, hnm⟩
  intro n
  induction n with
  | zero => intro l0 l1 l2 l3 l4 S H locs ls kc ks C N _ _ _ _ _ hf; exact absurd hf (fun h => by cases h)
  | succ n ih =>
    intro l0 l1 l2 l3 l4 S H locs ls kc ks C N hkc hks hH hS hl hf
    rw [fX1_passes_b40] at hf
    refine lv_iload (pc := 40) hx hb dX1_passes_40 (lv_at hl 4 rfl) ?_
    refine g_aload_n (pc := 42) (o := l3) hx hb dX1_passes_42 rfl (lv_at hl 3 rfl) ?_
    obtain ⟨a1, ea1, hf⟩ := bdo hf
    obtain ⟨v2, e2, hf⟩ := bdo hf
    refine g_get (pc := 43) (o := l3) (a := a1) (ci := 3) (k := 7) (v := va_rf v2) (C := RX8) (T := TX8) (N := 13) hx hb hts hown hE hk hH in_X8 rfl (by decide) (hts _ q1168) (fun _ h9 => h9) ea1 (rdR_o e2) dX1_passes_43 ?_
    obtain ⟨a4, ea4, hf⟩ := bdo hf
    obtain ⟨v3, S3, c3, n3, c2_3, n2_3, e3, hf, hC3, hN3⟩ := gbo hf
    refine g_callV (pc := 46) (o := v2) (b := a4) (As := []) (rest := [.int l4]) (st1 := [.int v3, .int l4]) hc (j_nAL_size hJ a4  S v3 S3 c3 n3 e3) (cwV 0 hts (lw_V q1539 q1120 q1121 q101 q1122) rfl rfl rfl hdJ2_size ⟨Nat.le_of_ble_eq_true rfl, Nat.le_of_ble_eq_true rfl⟩) (j_recv hJ _ _ _ _ 0 _ _ hE hH hS (adtR (t := 0) (show bd _ _ = some _ from e3)).choose_spec) ea4 rfl hl.1 rfl rfl (lv_room (Nat.le_of_ble_eq_true rfl)) dX1_passes_46 hH hS (by omega) (by omega) (fun H locs hH hS => ?_)
    have hkc : kc + c3 + c2_3 ≤ mc := by omega
    have hks : ks + n3 + n2_3 ≤ ms := by omega
    refine lv_icmp_ge (pc := 49) (tgt := 94) hx hb dX1_passes_49 (by decide) (fun c5 => ?_) (fun c5 => ?_)
    · rw [if_pos c5] at hf
      refine lv_iinc (pc := 94) (v := l2 + (nI 1)) (lv' := [(2, .int (l2 + (nI 1))), (0, .ref l0), (1, .int l1), (3, va_rf l3), (4, .int l4)]) hx hb dX1_passes_94 hl (k := 2) rfl rfl (by decide) rfl (fun ls hl => ?_)
      refine lv_goto (pc := 97) (tgt := 14) hx hb dX1_passes_97 (by decide) ?_
      exact h14 l0 l1 (l2 + (nI 1)) S3 _ _ ls _ _ _ _ hkc hks hH hS (lv_sub hl [1, 2, 0] rfl) hf
    · rw [if_neg c5] at hf
      refine lv_aload_n (pc := 52) hx hb dX1_passes_52 rfl (lv_at hl 0 rfl) ?_
      refine g_aload_n (pc := 53) (o := l3) hx hb dX1_passes_53 rfl (lv_at hl 3 rfl) ?_
      refine g_aload_n (pc := 54) (o := l3) hx hb dX1_passes_54 rfl (lv_at hl 3 rfl) ?_
      obtain ⟨v6, e6, hf⟩ := bdo hf
      refine g_get (pc := 55) (o := l3) (a := a1) (ci := 3) (k := 7) (v := va_rf v6) (C := RX8) (T := TX8) (N := 13) hx hb hts hown hE hk hH in_X8 rfl (by decide) (hts _ q1168) (fun _ h9 => h9) ea1 (rdR_o e6) dX1_passes_55 ?_
      refine lv_iload (pc := 58) hx hb dX1_passes_58 (lv_at hl 4 rfl) ?_
      obtain ⟨a8, ea8, hf⟩ := bdo hf
      obtain ⟨v7, S7, c7, n7, c2_7, n2_7, e7, hf, hC7, hN7⟩ := gbo hf
      refine g_callV (pc := 60) (o := v6) (b := a8) (As := [.int l4]) (rest := [va_rf l3, .ref l0]) (st1 := [va_rf v7, va_rf l3, .ref l0]) hc (j_nAL_get hJ a8 l4 S3 v7 S7 c7 n7 e7) (cwV 1 hts (lw_V q1290 q1223 q1224 q101 q1225) rfl rfl rfl hdJ2_get ⟨Nat.le_of_ble_eq_true rfl, Nat.le_of_ble_eq_true rfl⟩) (j_recv hJ _ _ _ _ 0 _ _ hE hH hS (adtR (t := 0) (show bd _ _ = some _ from e7)).choose_spec) ea8 rfl hl.1 rfl rfl (lv_room (by simp [va_rf_cat, cat_i, cat_j, cat_r])) dX1_passes_60 hH hS (by omega) (by omega) (fun H locs hH hS => ?_)
      have hkc : kc + c3 + c7 + c2_7 ≤ mc := by omega
      have hks : ks + n3 + n7 + n2_7 ≤ ms := by omega
      obtain ⟨_, e9, hf⟩ := bdo hf
      refine g_cast (pc := 63) (o := v7) (ci := 4) (C := RX16) (T := TX16) (N := 6) hx hb hts hown hE hk hH rfl q1512 e9 dX1_passes_63 ?_
      obtain ⟨_, ek10, hf⟩ := bdo hf
      obtain ⟨v10, S10, c10, n10, c2_10, n2_10, e10, hf, hC10, hN10⟩ := gbo hf
      refine g_callV (pc := 66) (o := (some l0)) (b := l0) (As := [va_rf l3, va_rf v7]) (rest := []) (st1 := [.int v10]) hc (mX1_ages hk hJ (l0 := l0) (l1 := l3) (l2 := v7) e10) (cwV 2 hts (lw_V q1912 q1914 qs32 q98 q1915) rfl rfl rfl hdX1_ages ⟨Nat.le_of_ble_eq_true rfl, Nat.le_of_ble_eq_true rfl⟩) (g_recv hE hk hH (ci := 1) (q := (RX1, TX1, 7)) rfl (chk_o ek10).choose_spec) rfl rfl hl.1 rfl rfl (lv_room (Nat.le_of_ble_eq_true rfl)) dX1_passes_66 hH hS (by omega) (by omega) (fun H locs hH hS => ?_)
      have hkc : kc + c3 + c7 + c10 + c2_10 ≤ mc := by omega
      have hks : ks + n3 + n7 + n10 + n2_10 ≤ ms := by omega
      refine lv_if_eq (pc := 69) (tgt := 88) hx hb dX1_passes_69 (by decide) (fun c11 => ?_) (fun c11 => ?_)
      · rw [if_pos c11] at hf
        refine lv_iinc (pc := 88) (v := l4 + (nI 1)) (lv' := [(4, .int (l4 + (nI 1))), (0, .ref l0), (1, .int l1), (2, .int l2), (3, va_rf l3)]) hx hb dX1_passes_88 hl (k := 4) rfl rfl (by decide) (by simp [va_rf_cat, cat_i, cat_j, cat_r] <;> rfl) (fun ls hl => ?_)
        refine lv_goto (pc := 91) (tgt := 40) hx hb dX1_passes_91 (by decide) ?_
        exact ih l0 l1 l2 l3 (l4 + (nI 1)) S10 _ _ ls _ _ _ _ hkc hks hH hS (lv_sub hl [1, 2, 3, 4, 0] rfl) hf
      · rw [if_neg c11] at hf
        refine g_aload_n (pc := 72) (o := l3) hx hb dX1_passes_72 rfl (lv_at hl 3 rfl) ?_
        obtain ⟨v12, e12, hf⟩ := bdo hf
        refine g_get (pc := 73) (o := l3) (a := a1) (ci := 3) (k := 7) (v := va_rf v12) (C := RX8) (T := TX8) (N := 13) hx hb hts hown hE hk hH in_X8 rfl (by decide) (hts _ q1168) (fun _ h9 => h9) ea1 (rdR_o e12) dX1_passes_73 ?_
        refine lv_iload (pc := 76) hx hb dX1_passes_76 (lv_at hl 4 rfl) ?_
        obtain ⟨a14, ea14, hf⟩ := bdo hf
        obtain ⟨v13, S13, c13, n13, c2_13, n2_13, e13, hf, hC13, hN13⟩ := gbo hf
        refine g_callV (pc := 78) (o := v12) (b := a14) (As := [.int l4]) (rest := []) (st1 := [va_rf v13]) hc (j_nAL_removeI hJ a14 l4 S10 v13 S13 c13 n13 e13) (cwV 1 hts (lw_V q1939 q1940 q1941 q101 q1942) rfl rfl rfl hdJ2_remove_2 ⟨Nat.le_of_ble_eq_true rfl, Nat.le_of_ble_eq_true rfl⟩) (j_recv hJ _ _ _ _ 0 _ _ hE hH hS (adtR (t := 0) (show bd _ _ = some _ from e13)).choose_spec) ea14 rfl hl.1 rfl rfl (lv_room (Nat.le_of_ble_eq_true rfl)) dX1_passes_78 hH hS (by omega) (by omega) (fun H locs hH hS => ?_)
        have hkc : kc + c3 + c7 + c10 + c13 + c2_13 ≤ mc := by omega
        have hks : ks + n3 + n7 + n10 + n13 + n2_13 ≤ ms := by omega
        refine lv_pop (pc := 81) hx hb dX1_passes_81 (va_rf_cat _) ?_
        refine lv_iinc (pc := 82) (v := l1 + (nI 1)) (lv' := [(1, .int (l1 + (nI 1))), (0, .ref l0), (2, .int l2), (3, va_rf l3), (4, .int l4)]) hx hb dX1_passes_82 hl (k := 1) rfl rfl (by decide) rfl (fun ls hl => ?_)
        refine lv_goto (pc := 85) (tgt := 40) hx hb dX1_passes_85 (by decide) ?_
        exact ih l0 (l1 + (nI 1)) l2 l3 l4 S13 _ _ ls _ _ _ _ hkc hks hH hS (lv_sub hl [1, 0, 2, 3, 4] rfl) hf
def fX1_passes_b14 : Nat → Nat → Int32 → Int32 → gS → gO Int32
  | 0, _, _, _, _ => none
  | n + 1, l0, l1, l2, S =>
    bd (rdR S l0 1 0) fun v1 =>
    bd v1 fun a3 =>
    gb (nAL_size a3  S) fun v2 S2 =>
    if v2 ≤ l2 then
      some (l1, S2, 0, 0)
    else
      bd (rdR S2 l0 1 0) fun v5 =>
      bd v5 fun a7 =>
      gb (nAL_get a7 l2 S2) fun v6 S6 =>
      bd (ckc S6 v6 3) fun _ =>
      fX1_passes_b40 (fX1_passes_b14 n) FU l0 l1 l2 v6 (nI 0) S6
theorem wX1_passes_b14 (hk : rOK Rp) (hJ : JDK l G Rp) (hc : gC p s m args meth c G RX1 "passes" cX1_passes 5 (some .int)) : ∀ (n : Nat) (l0 : Nat) (l1 : Int32) (l2 : Int32) (S : gS) (H : Heap) (locs : List Loc) (ls : Array Slot) (kc ks C N : Nat), kc + C ≤ mc → ks + N ≤ ms → hp G Rp S H → va_S G.2.2.2 s.heap H locs → lv_has ls 5 [(0, .ref l0), (1, .int l1), (2, .int l2)] → fX1_passes_b14 n l0 l1 l2 S = some (r, Sf, C, N) → W p l e (gR 18 609 mc ms) s m args below meth c H locs kc ks (gQ below G Rp (some (.int r)) Sf args s mc ms) (F0 m 14 ls []) := by
  obtain ⟨hx, hb, hr, hlk, hml, hown, hts, hE, hA, hnm⟩ := hc
  have hc : gC p s m args meth c G RX1 "passes" cX1_passes 5 (some .int) := ⟨hx, hb, hr, hlk, hml, hown, hts, hE, hA, hnm⟩
  intro n
  induction n with
  | zero => intro l0 l1 l2 S H locs ls kc ks C N _ _ _ _ _ hf; exact absurd hf (fun h => by cases h)
  | succ n ih =>
    intro l0 l1 l2 S H locs ls kc ks C N hkc hks hH hS hl hf
    rw [fX1_passes_b14] at hf
    refine lv_iload_n (pc := 14) hx hb dX1_passes_14 rfl (lv_at hl 2 rfl) ?_
    refine lv_aload_n (pc := 15) hx hb dX1_passes_15 rfl (lv_at hl 0 rfl) ?_
    obtain ⟨v1, e1, hf⟩ := bdo hf
    refine g_get (pc := 16) (o := (some l0)) (a := l0) (ci := 1) (k := 0) (v := va_rf v1) (C := RX1) (T := TX1) (N := 7) hx hb hts hown hE hk hH in_X1 rfl (by decide) (hts _ q231) (fun _ h9 => h9) rfl (rdR_o e1) dX1_passes_16 ?_
    obtain ⟨a3, ea3, hf⟩ := bdo hf
    obtain ⟨v2, S2, c2, n2, c2_2, n2_2, e2, hf, hC2, hN2⟩ := gbo hf
    refine g_callV (pc := 19) (o := v1) (b := a3) (As := []) (rest := [.int l2]) (st1 := [.int v2, .int l2]) hc (j_nAL_size hJ a3  S v2 S2 c2 n2 e2) (cwV 0 hts (lw_V q1539 q1120 q1121 q101 q1122) rfl rfl rfl hdJ2_size ⟨Nat.le_of_ble_eq_true rfl, Nat.le_of_ble_eq_true rfl⟩) (j_recv hJ _ _ _ _ 0 _ _ hE hH hS (adtR (t := 0) (show bd _ _ = some _ from e2)).choose_spec) ea3 rfl hl.1 rfl rfl (lv_room (Nat.le_of_ble_eq_true rfl)) dX1_passes_19 hH hS (by omega) (by omega) (fun H locs hH hS => ?_)
    have hkc : kc + c2 + c2_2 ≤ mc := by omega
    have hks : ks + n2 + n2_2 ≤ ms := by omega
    refine lv_icmp_ge (pc := 22) (tgt := 100) hx hb dX1_passes_22 (by decide) (fun c4 => ?_) (fun c4 => ?_)
    · rw [if_pos c4] at hf
      refine lv_iload_n (pc := 100) hx hb dX1_passes_100 rfl (lv_at hl 1 rfl) ?_
      exact g_iret (pc := 101) hx hb hr hlk hH hS hkc hks hf dX1_passes_101
    · rw [if_neg c4] at hf
      refine lv_aload_n (pc := 25) hx hb dX1_passes_25 rfl (lv_at hl 0 rfl) ?_
      obtain ⟨v5, e5, hf⟩ := bdo hf
      refine g_get (pc := 26) (o := (some l0)) (a := l0) (ci := 1) (k := 0) (v := va_rf v5) (C := RX1) (T := TX1) (N := 7) hx hb hts hown hE hk hH in_X1 rfl (by decide) (hts _ q231) (fun _ h9 => h9) rfl (rdR_o e5) dX1_passes_26 ?_
      refine lv_iload_n (pc := 29) hx hb dX1_passes_29 rfl (lv_at hl 2 rfl) ?_
      obtain ⟨a7, ea7, hf⟩ := bdo hf
      obtain ⟨v6, S6, c6, n6, c2_6, n2_6, e6, hf, hC6, hN6⟩ := gbo hf
      refine g_callV (pc := 30) (o := v5) (b := a7) (As := [.int l2]) (rest := []) (st1 := [va_rf v6]) hc (j_nAL_get hJ a7 l2 S2 v6 S6 c6 n6 e6) (cwV 1 hts (lw_V q1290 q1223 q1224 q101 q1225) rfl rfl rfl hdJ2_get ⟨Nat.le_of_ble_eq_true rfl, Nat.le_of_ble_eq_true rfl⟩) (j_recv hJ _ _ _ _ 0 _ _ hE hH hS (adtR (t := 0) (show bd _ _ = some _ from e6)).choose_spec) ea7 rfl hl.1 rfl rfl (lv_room (Nat.le_of_ble_eq_true rfl)) dX1_passes_30 hH hS (by omega) (by omega) (fun H locs hH hS => ?_)
      have hkc : kc + c2 + c6 + c2_6 ≤ mc := by omega
      have hks : ks + n2 + n6 + n2_6 ≤ ms := by omega
      obtain ⟨_, e8, hf⟩ := bdo hf
      refine g_cast (pc := 33) (o := v6) (ci := 3) (C := RX8) (T := TX8) (N := 13) hx hb hts hown hE hk hH rfl q1291 e8 dX1_passes_33 ?_
      refine g_astore_n (pc := 36) (i := 3) (o := v6) (lv' := [(3, va_rf v6), (0, .ref l0), (1, .int l1), (2, .int l2)]) hx hb dX1_passes_36 rfl hl (by decide) rfl (fun ls hl => ?_)
      refine lv_iconst (pc := 37) (v := nI 0) hx hb dX1_passes_37 rfl ?_
      refine lv_istore (pc := 38) (i := 4) (lv' := [(4, .int (nI 0)), (3, va_rf v6), (0, .ref l0), (1, .int l1), (2, .int l2)]) hx hb dX1_passes_38 hl (by decide) (by simp [va_rf_cat, cat_i, cat_j, cat_r] <;> rfl) (fun ls hl => ?_)
      exact wX1_passes_b40 hk hJ hc (fX1_passes_b14 n) ih FU l0 l1 l2 v6 (nI 0) S6 _ _ ls _ _ _ _ hkc hks hH hS (lv_sub hl [2, 3, 4, 1, 0] rfl) hf
def fX1_passes (l0 : Nat) (S : gS) : gO Int32 :=
  bd (rdI S l0 1 5) fun v1 =>
  bd (wr S l0 1 5 (.int (v1 + (nI 1)))) fun S2 =>
  fX1_passes_b14 FU l0 (nI 0) (nI 0) S2
theorem wX1_passes_b0 (hk : rOK Rp) (hJ : JDK l G Rp) (hc : gC p s m args meth c G RX1 "passes" cX1_passes 5 (some .int)) (l0 : Nat) (S : gS) (H : Heap) (locs : List Loc) (ls : Array Slot) (kc ks C N : Nat) (hkc : kc + C ≤ mc) (hks : ks + N ≤ ms) (hH : hp G Rp S H) (hS : va_S G.2.2.2 s.heap H locs) (hl : lv_has ls 5 [(0, .ref l0)]) (hf : fX1_passes l0 S = some (r, Sf, C, N)) : W p l e (gR 18 609 mc ms) s m args below meth c H locs kc ks (gQ below G Rp (some (.int r)) Sf args s mc ms) (F0 m 0 ls []) := by
  obtain ⟨hx, hb, hr, hlk, hml, hown, hts, hE, hA, hnm⟩ := hc
  have hc : gC p s m args meth c G RX1 "passes" cX1_passes 5 (some .int) := ⟨hx, hb, hr, hlk, hml, hown, hts, hE, hA, hnm⟩
  unfold fX1_passes at hf
  refine lv_aload_n (pc := 0) hx hb dX1_passes_0 rfl (lv_at hl 0 rfl) ?_
  refine lv_dup (pc := 1) hx hb dX1_passes_1 rfl ?_
  obtain ⟨v1, e1, hf⟩ := bdo hf
  refine g_get (pc := 2) (o := (some l0)) (a := l0) (ci := 1) (k := 5) (v := .int v1) (C := RX1) (T := TX1) (N := 7) hx hb hts hown hE hk hH in_X1 rfl (by decide) (hts _ q241) (fun _ h9 => h9) rfl (rdI_o e1) dX1_passes_2 ?_
  refine lv_iconst (pc := 5) (v := nI 1) hx hb dX1_passes_5 rfl ?_
  refine lv_iadd (pc := 6) hx hb dX1_passes_6 ?_
  obtain ⟨S2, e2, hf⟩ := bdo hf
  refine g_put (pc := 7) (o := (some l0)) (a := l0) (ci := 1) (k := 5) (v := .int (v1 + (nI 1))) (C := RX1) (T := TX1) (N := 7) (ty := .int) hx hb hts hown hE hk hH hS rfl in_X1 tyX1_ok nmX1 rfl (by decide) (hts _ q241) (fun _ h9 => h9) rfl rfl rfl rfl rfl e2 dX1_passes_7 (fun H locs hH hS => ?_)
  refine lv_iconst (pc := 10) (v := nI 0) hx hb dX1_passes_10 rfl ?_
  refine lv_istore_n (pc := 11) (i := 1) (lv' := [(1, .int (nI 0)), (0, .ref l0)]) hx hb dX1_passes_11 rfl hl (by decide) rfl (fun ls hl => ?_)
  refine lv_iconst (pc := 12) (v := nI 0) hx hb dX1_passes_12 rfl ?_
  refine lv_istore_n (pc := 13) (i := 2) (lv' := [(2, .int (nI 0)), (1, .int (nI 0)), (0, .ref l0)]) hx hb dX1_passes_13 rfl hl (by decide) rfl (fun ls hl => ?_)
  exact wX1_passes_b14 hk hJ hc FU l0 (nI 0) (nI 0) S2 _ _ ls _ _ _ _ hkc hks hH hS (lv_sub hl [2, 1, 0] rfl) hf
theorem mX1_passes {l : Launch} {G : gG} {Rp : gM → gM → Nat → Prop} (hk : rOK Rp) (hJ : JDK l G Rp) {S S2 : gS} {r2 : Int32} {C N : Nat} {l0 : Nat} (hf : fX1_passes l0 S = some (r2, S2, C, N)) : gMet l yX1_passes cX1_passes 5 (some .int) 18 609 G Rp [.ref l0] S (some (.int r2)) S2 C N := by
  refine g_start (by decide) (Nat.le_of_ble_eq_true rfl) (fun p e s m args below meth c ls hc hl hH => ?_)
  have hl : lv_has ls 5 [(0, .ref l0)] := hl
  exact wX1_passes_b0 hk hJ hc l0 S _ _ ls 0 0 C N (by omega) (by omega) hH va_S.rf (lv_sub hl [0] rfl) hf
end
section
variable {r : Int32} {Sf : gS}
def fX1_day (G : gG) (l0 : Nat) (S : gS) : gO Int32 :=
  bd (chk S l0 1) fun _ =>
  gb (fX1_acts G l0 S) fun v1 S1 =>
  bd (chk S1 l0 1) fun _ =>
  gb (fX1_passes l0 S1) fun v2 S2 =>
  zg v1 S2
theorem wX1_day_b0 (hk : rOK Rp) (hJ : JDK l G Rp) (hc : gC p s m args meth c G RX1 "day" cX1_day 2 (some .boolean)) (l0 : Nat) (S : gS) (H : Heap) (locs : List Loc) (ls : Array Slot) (kc ks C N : Nat) (hkc : kc + C ≤ mc) (hks : ks + N ≤ ms) (hH : hp G Rp S H) (hS : va_S G.2.2.2 s.heap H locs) (hl : lv_has ls 2 [(0, .ref l0)]) (hf : fX1_day G l0 S = some (r, Sf, C, N)) : W p l e (gR 21 3347 mc ms) s m args below meth c H locs kc ks (gQ below G Rp (some (.int r)) Sf args s mc ms) (F0 m 0 ls []) := by
  obtain ⟨hx, hb, hr, hlk, hml, hown, hts, hE, hA, hnm⟩ := hc
  have hc : gC p s m args meth c G RX1 "day" cX1_day 2 (some .boolean) := ⟨hx, hb, hr, hlk, hml, hown, hts, hE, hA, hnm⟩
  unfold fX1_day at hf
  refine lv_aload_n (pc := 0) hx hb dX1_day_0 rfl (lv_at hl 0 rfl) ?_
  obtain ⟨_, ek1, hf⟩ := bdo hf
  obtain ⟨v1, S1, c1, n1, c2_1, n2_1, e1, hf, hC1, hN1⟩ := gbo hf
  refine g_callV (pc := 1) (o := (some l0)) (b := l0) (As := []) (rest := []) (st1 := [.int v1]) hc (mX1_acts hk hJ (l0 := l0) e1) (cwV 0 hts (lw_V q2775 q2777 qs46 q98 q2778) rfl rfl rfl hdX1_acts ⟨Nat.le_of_ble_eq_true rfl, Nat.le_of_ble_eq_true rfl⟩) (g_recv hE hk hH (ci := 1) (q := (RX1, TX1, 7)) rfl (chk_o ek1).choose_spec) rfl rfl hl.1 rfl rfl (lv_room (Nat.le_of_ble_eq_true rfl)) dX1_day_1 hH hS (by omega) (by omega) (fun H locs hH hS => ?_)
  have hkc : kc + c1 + c2_1 ≤ mc := by omega
  have hks : ks + n1 + n2_1 ≤ ms := by omega
  refine lv_istore_n (pc := 4) (i := 1) (lv' := [(1, .int v1), (0, .ref l0)]) hx hb dX1_day_4 rfl hl (by decide) rfl (fun ls hl => ?_)
  refine lv_aload_n (pc := 5) hx hb dX1_day_5 rfl (lv_at hl 1 rfl) ?_
  obtain ⟨_, ek2, hf⟩ := bdo hf
  obtain ⟨v2, S2, c2, n2, c2_2, n2_2, e2, hf, hC2, hN2⟩ := gbo hf
  refine g_callV (pc := 6) (o := (some l0)) (b := l0) (As := []) (rest := []) (st1 := [.int v2]) hc (mX1_passes hk hJ (l0 := l0) e2) (cwV 0 hts (lw_V q2799 q1909 q1910 q98 q1911) rfl rfl rfl hdX1_passes ⟨Nat.le_of_ble_eq_true rfl, Nat.le_of_ble_eq_true rfl⟩) (g_recv hE hk hH (ci := 1) (q := (RX1, TX1, 7)) rfl (chk_o ek2).choose_spec) rfl rfl hl.1 rfl rfl (lv_room (Nat.le_of_ble_eq_true rfl)) dX1_day_6 hH hS (by omega) (by omega) (fun H locs hH hS => ?_)
  have hkc : kc + c1 + c2 + c2_2 ≤ mc := by omega
  have hks : ks + n1 + n2 + n2_2 ≤ ms := by omega
  refine lv_pop (pc := 9) hx hb dX1_day_9 rfl ?_
  refine lv_iload_n (pc := 10) hx hb dX1_day_10 rfl (lv_at hl 0 rfl) ?_
  exact g_zret (pc := 11) hx hb hr hlk hH hS hkc hks hf dX1_day_11
theorem mX1_day {l : Launch} {G : gG} {Rp : gM → gM → Nat → Prop} (hk : rOK Rp) (hJ : JDK l G Rp) {S S2 : gS} {r2 : Int32} {C N : Nat} {l0 : Nat} (hf : fX1_day G l0 S = some (r2, S2, C, N)) : gMet l yX1_day cX1_day 2 (some .boolean) 21 3347 G Rp [.ref l0] S (some (.int r2)) S2 C N := by
  refine g_start (by decide) (Nat.le_of_ble_eq_true rfl) (fun p e s m args below meth c ls hc hl hH => ?_)
  have hl : lv_has ls 2 [(0, .ref l0)] := hl
  exact wX1_day_b0 hk hJ hc l0 S _ _ ls 0 0 C N (by omega) (by omega) hH va_S.rf (lv_sub hl [0] rfl) hf
end
section
variable {r : Int32} {Sf : gS}
def fX0_days_b21 (G : gG) : Nat → Nat → Int32 → Int32 → Int32 → gS → gO Int32
  | 0, _, _, _, _, _ => none
  | n + 1, l0, l1, l2, l3, S =>
    if l1 ≤ l3 then
      some (l2, S, 0, 0)
    else
      bd (rdR S l0 0 0) fun v2 =>
      bd v2 fun a4 =>
      bd (chk S a4 1) fun _ =>
      gb (fX1_day G a4 S) fun v3 S3 =>
      if v3 = 0 then
        fX0_days_b21 G n l0 l1 (l2 + (nI 0)) (l3 + (nI 1)) S3
      else
        fX0_days_b21 G n l0 l1 (l2 + (nI 1)) (l3 + (nI 1)) S3
theorem wX0_days_b21 (hk : rOK Rp) (hJ : JDK l G Rp) (hc : gC p s m args meth c G RX0 "days" cX0_days 4 (some .int)) : ∀ (n : Nat) (l0 : Nat) (l1 : Int32) (l2 : Int32) (l3 : Int32) (S : gS) (H : Heap) (locs : List Loc) (ls : Array Slot) (kc ks C N : Nat), kc + C ≤ mc → ks + N ≤ ms → hp G Rp S H → va_S G.2.2.2 s.heap H locs → lv_has ls 4 [(0, .ref l0), (1, .int l1), (2, .int l2), (3, .int l3)] → fX0_days_b21 G n l0 l1 l2 l3 S = some (r, Sf, C, N) → W p l e (gR 22 3368 mc ms) s m args below meth c H locs kc ks (gQ below G Rp (some (.int r)) Sf args s mc ms) (F0 m 21 ls []) := by
  obtain ⟨hx, hb, hr, hlk, hml, hown, hts, hE, hA, hnm⟩ := hc
  have hc : gC p s m args meth c G RX0 "days" cX0_days 4 (some .int) := ⟨hx, hb, hr, hlk, hml, hown, hts, hE, hA, hnm⟩
  intro n
  induction n with
  | zero => intro l0 l1 l2 l3 S H locs ls kc ks C N _ _ _ _ _ hf; exact absurd hf (fun h => by cases h)
  | succ n ih =>
    intro l0 l1 l2 l3 S H locs ls kc ks C N hkc hks hH hS hl hf
    rw [fX0_days_b21] at hf
    refine lv_iload_n (pc := 21) hx hb dX0_days_21 rfl (lv_at hl 3 rfl) ?_
    refine lv_iload_n (pc := 22) hx hb dX0_days_22 rfl (lv_at hl 1 rfl) ?_
    refine lv_icmp_ge (pc := 23) (tgt := 50) hx hb dX0_days_23 (by decide) (fun c1 => ?_) (fun c1 => ?_)
    · rw [if_pos c1] at hf
      refine lv_iload_n (pc := 50) hx hb dX0_days_50 rfl (lv_at hl 2 rfl) ?_
      exact g_iret (pc := 51) hx hb hr hlk hH hS hkc hks hf dX0_days_51
    · rw [if_neg c1] at hf
      refine lv_iload_n (pc := 26) hx hb dX0_days_26 rfl (lv_at hl 2 rfl) ?_
      refine lv_aload_n (pc := 27) hx hb dX0_days_27 rfl (lv_at hl 0 rfl) ?_
      obtain ⟨v2, e2, hf⟩ := bdo hf
      refine g_get (pc := 28) (o := (some l0)) (a := l0) (ci := 0) (k := 0) (v := va_rf v2) (C := RX0) (T := TX0) (N := 7) hx hb hts hown hE hk hH in_X0 rfl (by decide) (hts _ q272) (fun _ h9 => h9) rfl (rdR_o e2) dX0_days_28 ?_
      obtain ⟨a4, ea4, hf⟩ := bdo hf
      obtain ⟨_, ek3, hf⟩ := bdo hf
      obtain ⟨v3, S3, c3, n3, c2_3, n2_3, e3, hf, hC3, hN3⟩ := gbo hf
      refine g_callV (pc := 31) (o := v2) (b := a4) (As := []) (rest := [.int l2]) (st1 := [.int v3, .int l2]) hc (mX1_day hk hJ (l0 := a4) e3) (cwV 0 hts (lw_V q2771 q2772 q2773 q98 q2774) rfl rfl rfl hdX1_day ⟨Nat.le_of_ble_eq_true rfl, Nat.le_of_ble_eq_true rfl⟩) (g_recv hE hk hH (ci := 1) (q := (RX1, TX1, 7)) rfl (chk_o ek3).choose_spec) ea4 rfl hl.1 rfl rfl (lv_room (Nat.le_of_ble_eq_true rfl)) dX0_days_31 hH hS (by omega) (by omega) (fun H locs hH hS => ?_)
      have hkc : kc + c3 + c2_3 ≤ mc := by omega
      have hks : ks + n3 + n2_3 ≤ ms := by omega
      refine lv_if_eq (pc := 34) (tgt := 41) hx hb dX0_days_34 (by decide) (fun c5 => ?_) (fun c5 => ?_)
      · rw [if_pos c5] at hf
        refine lv_iconst (pc := 41) (v := nI 0) hx hb dX0_days_41 rfl ?_
        refine lv_iadd (pc := 42) hx hb dX0_days_42 ?_
        refine lv_istore_n (pc := 43) (i := 2) (lv' := [(2, .int (l2 + (nI 0))), (0, .ref l0), (1, .int l1), (3, .int l3)]) hx hb dX0_days_43 rfl hl (by decide) rfl (fun ls hl => ?_)
        refine lv_iinc (pc := 44) (v := l3 + (nI 1)) (lv' := [(3, .int (l3 + (nI 1))), (2, .int (l2 + (nI 0))), (0, .ref l0), (1, .int l1)]) hx hb dX0_days_44 hl (k := 3) rfl rfl (by decide) rfl (fun ls hl => ?_)
        refine lv_goto (pc := 47) (tgt := 21) hx hb dX0_days_47 (by decide) ?_
        exact ih l0 l1 (l2 + (nI 0)) (l3 + (nI 1)) S3 _ _ ls _ _ _ _ hkc hks hH hS (lv_sub hl [2, 3, 1, 0] rfl) hf
      · rw [if_neg c5] at hf
        refine lv_iconst (pc := 37) (v := nI 1) hx hb dX0_days_37 rfl ?_
        refine lv_goto (pc := 38) (tgt := 42) hx hb dX0_days_38 (by decide) ?_
        refine lv_iadd (pc := 42) hx hb dX0_days_42 ?_
        refine lv_istore_n (pc := 43) (i := 2) (lv' := [(2, .int (l2 + (nI 1))), (0, .ref l0), (1, .int l1), (3, .int l3)]) hx hb dX0_days_43 rfl hl (by decide) rfl (fun ls hl => ?_)
        refine lv_iinc (pc := 44) (v := l3 + (nI 1)) (lv' := [(3, .int (l3 + (nI 1))), (2, .int (l2 + (nI 1))), (0, .ref l0), (1, .int l1)]) hx hb dX0_days_44 hl (k := 3) rfl rfl (by decide) rfl (fun ls hl => ?_)
        refine lv_goto (pc := 47) (tgt := 21) hx hb dX0_days_47 (by decide) ?_
        exact ih l0 l1 (l2 + (nI 1)) (l3 + (nI 1)) S3 _ _ ls _ _ _ _ hkc hks hH hS (lv_sub hl [2, 3, 1, 0] rfl) hf
def fX0_days (G : gG) (l0 : Nat) (l1 : Int32) (S : gS) : gO Int32 :=
  gb (fX0_isIn l1 (nI 1) (nI 60) S) fun v1 S1 =>
  if v1 = 0 then
    bd (chk S1 l0 0) fun _ =>
    gb (fX0_no l0 (-82) S1) fun v3 S3 =>
    some (v3, S3, 0, 0)
  else
    fX0_days_b21 G FU l0 l1 (nI 0) (nI 0) S1
theorem wX0_days_b0 (hk : rOK Rp) (hJ : JDK l G Rp) (hc : gC p s m args meth c G RX0 "days" cX0_days 4 (some .int)) (l0 : Nat) (l1 : Int32) (S : gS) (H : Heap) (locs : List Loc) (ls : Array Slot) (kc ks C N : Nat) (hkc : kc + C ≤ mc) (hks : ks + N ≤ ms) (hH : hp G Rp S H) (hS : va_S G.2.2.2 s.heap H locs) (hl : lv_has ls 4 [(0, .ref l0), (1, .int l1)]) (hf : fX0_days G l0 l1 S = some (r, Sf, C, N)) : W p l e (gR 22 3368 mc ms) s m args below meth c H locs kc ks (gQ below G Rp (some (.int r)) Sf args s mc ms) (F0 m 0 ls []) := by
  obtain ⟨hx, hb, hr, hlk, hml, hown, hts, hE, hA, hnm⟩ := hc
  have hc : gC p s m args meth c G RX0 "days" cX0_days 4 (some .int) := ⟨hx, hb, hr, hlk, hml, hown, hts, hE, hA, hnm⟩
  unfold fX0_days at hf
  refine lv_iload_n (pc := 0) hx hb dX0_days_0 rfl (lv_at hl 1 rfl) ?_
  refine lv_iconst (pc := 1) (v := nI 1) hx hb dX0_days_1 rfl ?_
  refine lv_bipush (pc := 2) (v := nI 60) hx hb dX0_days_2 gkb60 ?_
  obtain ⟨v1, S1, c1, n1, c2_1, n2_1, e1, hf, hC1, hN1⟩ := gbo hf
  refine g_callS (pc := 4) (As := [.int l1, .int (nI 1), .int (nI 60)]) (rest := []) (st1 := [.int v1]) hc (mX0_isIn hk hJ (l0 := l1) (l1 := (nI 1)) (l2 := (nI 60)) e1) (va_cwS 3 hts (lw_S q395 q396 q97 q397) rfl rfl rfl hdX0_isIn ⟨Nat.le_of_ble_eq_true rfl, Nat.le_of_ble_eq_true rfl⟩) rfl hl.1 rfl rfl (lv_room (Nat.le_of_ble_eq_true rfl)) dX0_days_4 hH hS (by omega) (by omega) (fun H locs hH hS => ?_)
  have hkc : kc + c1 + c2_1 ≤ mc := by omega
  have hks : ks + n1 + n2_1 ≤ ms := by omega
  refine lv_if_ne (pc := 7) (tgt := 17) hx hb dX0_days_7 (by decide) (fun c2 => ?_) (fun c2 => ?_)
  · rw [if_neg c2] at hf
    refine lv_iconst (pc := 17) (v := nI 0) hx hb dX0_days_17 rfl ?_
    refine lv_istore_n (pc := 18) (i := 2) (lv' := [(2, .int (nI 0)), (0, .ref l0), (1, .int l1)]) hx hb dX0_days_18 rfl hl (by decide) rfl (fun ls hl => ?_)
    refine lv_iconst (pc := 19) (v := nI 0) hx hb dX0_days_19 rfl ?_
    refine lv_istore_n (pc := 20) (i := 3) (lv' := [(3, .int (nI 0)), (2, .int (nI 0)), (0, .ref l0), (1, .int l1)]) hx hb dX0_days_20 rfl hl (by decide) rfl (fun ls hl => ?_)
    exact wX0_days_b21 hk hJ hc FU l0 l1 (nI 0) (nI 0) S1 _ _ ls _ _ _ _ hkc hks hH hS (lv_sub hl [2, 3, 1, 0] rfl) hf
  · rw [if_pos c2] at hf
    refine lv_aload_n (pc := 10) hx hb dX0_days_10 rfl (lv_at hl 0 rfl) ?_
    refine lv_bipush (pc := 11) (v := -82) hx hb dX0_days_11 gkbm82 ?_
    obtain ⟨_, ek3, hf⟩ := bdo hf
    obtain ⟨v3, S3, c3, n3, c2_3, n2_3, e3, hf, hC3, hN3⟩ := gbo hf
    refine g_callV (pc := 13) (o := (some l0)) (b := l0) (As := [.int (-82)]) (rest := []) (st1 := [.int v3]) hc (mX0_no hk hJ (l0 := l0) (l1 := (-82)) e3) (cwV 1 hts (lw_V q398 q400 qs2 q97 q401) rfl rfl rfl hdX0_no ⟨Nat.le_of_ble_eq_true rfl, Nat.le_of_ble_eq_true rfl⟩) (g_recv hE hk hH (ci := 0) (q := (RX0, TX0, 7)) rfl (chk_o ek3).choose_spec) rfl rfl hl.1 rfl rfl (lv_room (Nat.le_of_ble_eq_true rfl)) dX0_days_13 hH hS (by omega) (by omega) (fun H locs hH hS => ?_)
    have hkc : kc + c1 + c3 + c2_3 ≤ mc := by omega
    have hks : ks + n1 + n3 + n2_3 ≤ ms := by omega
    exact g_iret (pc := 16) hx hb hr hlk hH hS hkc hks hf dX0_days_16
theorem mX0_days {l : Launch} {G : gG} {Rp : gM → gM → Nat → Prop} (hk : rOK Rp) (hJ : JDK l G Rp) {S S2 : gS} {r2 : Int32} {C N : Nat} {l0 : Nat} {l1 : Int32} (hf : fX0_days G l0 l1 S = some (r2, S2, C, N)) : gMet l yX0_days cX0_days 4 (some .int) 22 3368 G Rp [.ref l0, .int l1] S (some (.int r2)) S2 C N := by
  refine g_start (by decide) (Nat.le_of_ble_eq_true rfl) (fun p e s m args below meth c ls hc hl hH => ?_)
  have hl : lv_has ls 4 [(0, .ref l0), (1, .int l1)] := hl
  exact wX0_days_b0 hk hJ hc l0 l1 S _ _ ls 0 0 C N (by omega) (by omega) hH va_S.rf (lv_sub hl [0, 1] rfl) hf
end
section
variable {r : Int32} {Sf : gS}
def fX0_dead_b17 (l0 : Nat) (S : gS) : gO Int32 :=
  bd (chk S l0 0) fun _ =>
  gb (fX0_no l0 (-82) S) fun v1 S1 =>
  some (v1, S1, 0, 0)
theorem wX0_dead_b17 (hk : rOK Rp) (hJ : JDK l G Rp) (hc : gC p s m args meth c G RX0 "dead" cX0_dead 4 (some .int)) (l0 : Nat) (S : gS) (H : Heap) (locs : List Loc) (ls : Array Slot) (kc ks C N : Nat) (hkc : kc + C ≤ mc) (hks : ks + N ≤ ms) (hH : hp G Rp S H) (hS : va_S G.2.2.2 s.heap H locs) (hl : lv_has ls 4 [(0, .ref l0)]) (hf : fX0_dead_b17 l0 S = some (r, Sf, C, N)) : W p l e (gR 16 561 mc ms) s m args below meth c H locs kc ks (gQ below G Rp (some (.int r)) Sf args s mc ms) (F0 m 17 ls []) := by
  obtain ⟨hx, hb, hr, hlk, hml, hown, hts, hE, hA, hnm⟩ := hc
  have hc : gC p s m args meth c G RX0 "dead" cX0_dead 4 (some .int) := ⟨hx, hb, hr, hlk, hml, hown, hts, hE, hA, hnm⟩
  unfold fX0_dead_b17 at hf
  refine lv_aload_n (pc := 17) hx hb dX0_dead_17 rfl (lv_at hl 0 rfl) ?_
  refine lv_bipush (pc := 18) (v := -82) hx hb dX0_dead_18 gkbm82 ?_
  obtain ⟨_, ek1, hf⟩ := bdo hf
  obtain ⟨v1, S1, c1, n1, c2_1, n2_1, e1, hf, hC1, hN1⟩ := gbo hf
  refine g_callV (pc := 20) (o := (some l0)) (b := l0) (As := [.int (-82)]) (rest := []) (st1 := [.int v1]) hc (mX0_no hk hJ (l0 := l0) (l1 := (-82)) e1) (cwV 1 hts (lw_V q398 q400 qs2 q97 q401) rfl rfl rfl hdX0_no ⟨Nat.le_of_ble_eq_true rfl, Nat.le_of_ble_eq_true rfl⟩) (g_recv hE hk hH (ci := 0) (q := (RX0, TX0, 7)) rfl (chk_o ek1).choose_spec) rfl rfl hl.1 rfl rfl (lv_room (Nat.le_of_ble_eq_true rfl)) dX0_dead_20 hH hS (by omega) (by omega) (fun H locs hH hS => ?_)
  have hkc : kc + c1 + c2_1 ≤ mc := by omega
  have hks : ks + n1 + n2_1 ≤ ms := by omega
  exact g_iret (pc := 23) hx hb hr hlk hH hS hkc hks hf dX0_dead_23
def fX0_dead (l0 : Nat) (l1 : Int32) (l2 : Int32) (S : gS) : gO Int32 :=
  bd (chk S l0 0) fun _ =>
  gb (fX0_isDead l0 l1 S) fun v1 S1 =>
  if v1 = 0 then
    fX0_dead_b17 l0 S1
  else
    gb (fX0_isIn l2 (nI 0) (nI 3) S1) fun v3 S3 =>
    if v3 = 0 then
      fX0_dead_b17 l0 S3
    else
      bd (rdR S3 l0 0 0) fun v5 =>
      bd v5 fun a6 =>
      bd (rdR S3 a6 1 3) fun v7 =>
      bd v7 fun a9 =>
      gb (nLL_get a9 l1 S3) fun v8 S8 =>
      bd (ckc S8 v8 7) fun _ =>
      if l2 = 0 then
        bd v8 fun a22 =>
        bd (rdR S8 a22 7 0) fun v23 =>
        bd v23 fun a24 =>
        bd (rdI S8 a24 5 0) fun v25 =>
        some (v25, S8, 0, 0)
      else
        if l2 = (nI 1) then
          bd v8 fun a20 =>
          bd (rdI S8 a20 7 1) fun v21 =>
          some (v21, S8, 0, 0)
        else
          if l2 = (nI 2) then
            bd v8 fun a18 =>
            bd (rdI S8 a18 7 2) fun v19 =>
            some (v19, S8, 0, 0)
          else
            bd v8 fun a14 =>
            bd (rdR S8 a14 7 3) fun v15 =>
            bd v15 fun a17 =>
            bd (ckP S8 (some a17) 0) fun _ =>
            gb (fX12_depth a17 S8) fun v16 S16 =>
            some (v16, S16, 0, 0)
theorem wX0_dead_b0 (hk : rOK Rp) (hJ : JDK l G Rp) (hc : gC p s m args meth c G RX0 "dead" cX0_dead 4 (some .int)) (l0 : Nat) (l1 : Int32) (l2 : Int32) (S : gS) (H : Heap) (locs : List Loc) (ls : Array Slot) (kc ks C N : Nat) (hkc : kc + C ≤ mc) (hks : ks + N ≤ ms) (hH : hp G Rp S H) (hS : va_S G.2.2.2 s.heap H locs) (hl : lv_has ls 4 [(0, .ref l0), (1, .int l1), (2, .int l2)]) (hf : fX0_dead l0 l1 l2 S = some (r, Sf, C, N)) : W p l e (gR 16 561 mc ms) s m args below meth c H locs kc ks (gQ below G Rp (some (.int r)) Sf args s mc ms) (F0 m 0 ls []) := by
  obtain ⟨hx, hb, hr, hlk, hml, hown, hts, hE, hA, hnm⟩ := hc
  have hc : gC p s m args meth c G RX0 "dead" cX0_dead 4 (some .int) := ⟨hx, hb, hr, hlk, hml, hown, hts, hE, hA, hnm⟩
  unfold fX0_dead at hf
  refine lv_aload_n (pc := 0) hx hb dX0_dead_0 rfl (lv_at hl 0 rfl) ?_
  refine lv_iload_n (pc := 1) hx hb dX0_dead_1 rfl (lv_at hl 1 rfl) ?_
  obtain ⟨_, ek1, hf⟩ := bdo hf
  obtain ⟨v1, S1, c1, n1, c2_1, n2_1, e1, hf, hC1, hN1⟩ := gbo hf
  refine g_callV (pc := 2) (o := (some l0)) (b := l0) (As := [.int l1]) (rest := []) (st1 := [.int v1]) hc (mX0_isDead hk hJ (l0 := l0) (l1 := l1) e1) (cwV 1 hts (lw_V q572 q574 qs5 q97 q575) rfl rfl rfl hdX0_isDead ⟨Nat.le_of_ble_eq_true rfl, Nat.le_of_ble_eq_true rfl⟩) (g_recv hE hk hH (ci := 0) (q := (RX0, TX0, 7)) rfl (chk_o ek1).choose_spec) rfl rfl hl.1 rfl rfl (lv_room (Nat.le_of_ble_eq_true rfl)) dX0_dead_2 hH hS (by omega) (by omega) (fun H locs hH hS => ?_)
  have hkc : kc + c1 + c2_1 ≤ mc := by omega
  have hks : ks + n1 + n2_1 ≤ ms := by omega
  refine lv_if_eq (pc := 5) (tgt := 17) hx hb dX0_dead_5 (by decide) (fun c2 => ?_) (fun c2 => ?_)
  · rw [if_pos c2] at hf
    exact wX0_dead_b17 hk hJ hc l0 S1 _ _ ls _ _ _ _ hkc hks hH hS (lv_sub hl [0] rfl) hf
  · rw [if_neg c2] at hf
    refine lv_iload_n (pc := 8) hx hb dX0_dead_8 rfl (lv_at hl 2 rfl) ?_
    refine lv_iconst (pc := 9) (v := nI 0) hx hb dX0_dead_9 rfl ?_
    refine lv_iconst (pc := 10) (v := nI 3) hx hb dX0_dead_10 rfl ?_
    obtain ⟨v3, S3, c3, n3, c2_3, n2_3, e3, hf, hC3, hN3⟩ := gbo hf
    refine g_callS (pc := 11) (As := [.int l2, .int (nI 0), .int (nI 3)]) (rest := []) (st1 := [.int v3]) hc (mX0_isIn hk hJ (l0 := l2) (l1 := (nI 0)) (l2 := (nI 3)) e3) (va_cwS 3 hts (lw_S q395 q396 q97 q397) rfl rfl rfl hdX0_isIn ⟨Nat.le_of_ble_eq_true rfl, Nat.le_of_ble_eq_true rfl⟩) rfl hl.1 rfl rfl (lv_room (Nat.le_of_ble_eq_true rfl)) dX0_dead_11 hH hS (by omega) (by omega) (fun H locs hH hS => ?_)
    have hkc : kc + c1 + c3 + c2_3 ≤ mc := by omega
    have hks : ks + n1 + n3 + n2_3 ≤ ms := by omega
    refine lv_if_ne (pc := 14) (tgt := 24) hx hb dX0_dead_14 (by decide) (fun c4 => ?_) (fun c4 => ?_)
    · rw [if_neg c4] at hf
      refine lv_aload_n (pc := 24) hx hb dX0_dead_24 rfl (lv_at hl 0 rfl) ?_
      obtain ⟨v5, e5, hf⟩ := bdo hf
      refine g_get (pc := 25) (o := (some l0)) (a := l0) (ci := 0) (k := 0) (v := va_rf v5) (C := RX0) (T := TX0) (N := 7) hx hb hts hown hE hk hH in_X0 rfl (by decide) (hts _ q272) (fun _ h9 => h9) rfl (rdR_o e5) dX0_dead_25 ?_
      obtain ⟨a6, ea6, hf⟩ := bdo hf
      obtain ⟨v7, e7, hf⟩ := bdo hf
      refine g_get (pc := 28) (o := v5) (a := a6) (ci := 1) (k := 3) (v := va_rf v7) (C := RX1) (T := TX1) (N := 7) hx hb hts hown hE hk hH in_X1 rfl (by decide) (hts _ q238) (fun _ h9 => h9) ea6 (rdR_o e7) dX0_dead_28 ?_
      refine lv_iload_n (pc := 31) hx hb dX0_dead_31 rfl (lv_at hl 1 rfl) ?_
      obtain ⟨a9, ea9, hf⟩ := bdo hf
      obtain ⟨v8, S8, c8, n8, c2_8, n2_8, e8, hf, hC8, hN8⟩ := gbo hf
      refine g_callV (pc := 32) (o := v7) (b := a9) (As := [.int l1]) (rest := []) (st1 := [va_rf v8]) hc (j_nLL_get hJ a9 l1 S3 v8 S8 c8 n8 e8) (cwV 1 hts (lw_V q580 q581 q582 q103 q583) rfl rfl rfl hdJ4_get ⟨Nat.le_of_ble_eq_true rfl, Nat.le_of_ble_eq_true rfl⟩) (j_recv hJ _ _ _ _ 1 _ _ hE hH hS (adtR (t := 1) (show bd _ _ = some _ from e8)).choose_spec) ea9 rfl hl.1 rfl rfl (lv_room (Nat.le_of_ble_eq_true rfl)) dX0_dead_32 hH hS (by omega) (by omega) (fun H locs hH hS => ?_)
      have hkc : kc + c1 + c3 + c8 + c2_8 ≤ mc := by omega
      have hks : ks + n1 + n3 + n8 + n2_8 ≤ ms := by omega
      obtain ⟨_, e10, hf⟩ := bdo hf
      refine g_cast (pc := 35) (o := v8) (ci := 7) (C := RX15) (T := TX15) (N := 4) hx hb hts hown hE hk hH rfl q848 e10 dX0_dead_35 ?_
      refine g_astore_n (pc := 38) (i := 3) (o := v8) (lv' := [(3, va_rf v8), (0, .ref l0), (1, .int l1), (2, .int l2)]) hx hb dX0_dead_38 rfl hl (by decide) rfl (fun ls hl => ?_)
      refine lv_iload_n (pc := 39) hx hb dX0_dead_39 rfl (lv_at hl 3 rfl) ?_
      refine lv_if_ne (pc := 40) (tgt := 53) hx hb dX0_dead_40 (by decide) (fun c11 => ?_) (fun c11 => ?_)
      · rw [if_neg c11] at hf
        refine lv_iload_n (pc := 53) hx hb dX0_dead_53 rfl (lv_at hl 3 rfl) ?_
        refine lv_iconst (pc := 54) (v := nI 1) hx hb dX0_dead_54 rfl ?_
        refine lv_icmp_ne (pc := 55) (tgt := 65) hx hb dX0_dead_55 (by decide) (fun c12 => ?_) (fun c12 => ?_)
        · rw [if_neg c12] at hf
          refine lv_iload_n (pc := 65) hx hb dX0_dead_65 rfl (lv_at hl 3 rfl) ?_
          refine lv_iconst (pc := 66) (v := nI 2) hx hb dX0_dead_66 rfl ?_
          refine lv_icmp_ne (pc := 67) (tgt := 77) hx hb dX0_dead_67 (by decide) (fun c13 => ?_) (fun c13 => ?_)
          · rw [if_neg c13] at hf
            refine g_aload_n (pc := 77) (o := v8) hx hb dX0_dead_77 rfl (lv_at hl 0 rfl) ?_
            obtain ⟨a14, ea14, hf⟩ := bdo hf
            obtain ⟨v15, e15, hf⟩ := bdo hf
            refine g_get (pc := 78) (o := v8) (a := a14) (ci := 7) (k := 3) (v := va_rf v15) (C := RX15) (T := TX15) (N := 4) hx hb hts hown hE hk hH in_X15 rfl (by decide) (hts _ q1654) (fun _ h9 => h9) ea14 (rdR_o e15) dX0_dead_78 ?_
            obtain ⟨a17, ea17, hf⟩ := bdo hf
            obtain ⟨_, ek16, hf⟩ := bdo hf
            obtain ⟨v16, S16, c16, n16, c2_16, n2_16, e16, hf, hC16, hN16⟩ := gbo hf
            refine gP_depth (pc := 81) (o := v15) (b := a17) (As := []) (rest := []) (st1 := [.int v16]) hc hk hJ e16 ek16 q849 (Nat.le_of_ble_eq_true rfl) (Nat.le_of_ble_eq_true rfl) ea17 rfl hl.1 rfl rfl (lv_room (Nat.le_of_ble_eq_true rfl)) dX0_dead_81 hH hS (by omega) (by omega) (fun H locs hH hS => ?_)
            have hkc : kc + c1 + c3 + c8 + c16 + c2_16 ≤ mc := by omega
            have hks : ks + n1 + n3 + n8 + n16 + n2_16 ≤ ms := by omega
            exact g_iret (pc := 84) hx hb hr hlk hH hS hkc hks hf dX0_dead_84
          · rw [if_pos c13] at hf
            refine g_aload_n (pc := 70) (o := v8) hx hb dX0_dead_70 rfl (lv_at hl 0 rfl) ?_
            obtain ⟨a18, ea18, hf⟩ := bdo hf
            obtain ⟨v19, e19, hf⟩ := bdo hf
            refine g_get (pc := 71) (o := v8) (a := a18) (ci := 7) (k := 2) (v := .int v19) (C := RX15) (T := TX15) (N := 4) hx hb hts hown hE hk hH in_X15 rfl (by decide) (hts _ q1652) (fun _ h9 => h9) ea18 (rdI_o e19) dX0_dead_71 ?_
            refine lv_goto (pc := 74) (tgt := 84) hx hb dX0_dead_74 (by decide) ?_
            exact g_iret (pc := 84) hx hb hr hlk hH hS hkc hks hf dX0_dead_84
        · rw [if_pos c12] at hf
          refine g_aload_n (pc := 58) (o := v8) hx hb dX0_dead_58 rfl (lv_at hl 0 rfl) ?_
          obtain ⟨a20, ea20, hf⟩ := bdo hf
          obtain ⟨v21, e21, hf⟩ := bdo hf
          refine g_get (pc := 59) (o := v8) (a := a20) (ci := 7) (k := 1) (v := .int v21) (C := RX15) (T := TX15) (N := 4) hx hb hts hown hE hk hH in_X15 rfl (by decide) (hts _ q1650) (fun _ h9 => h9) ea20 (rdI_o e21) dX0_dead_59 ?_
          refine lv_goto (pc := 62) (tgt := 84) hx hb dX0_dead_62 (by decide) ?_
          exact g_iret (pc := 84) hx hb hr hlk hH hS hkc hks hf dX0_dead_84
      · rw [if_pos c11] at hf
        refine g_aload_n (pc := 43) (o := v8) hx hb dX0_dead_43 rfl (lv_at hl 0 rfl) ?_
        obtain ⟨a22, ea22, hf⟩ := bdo hf
        obtain ⟨v23, e23, hf⟩ := bdo hf
        refine g_get (pc := 44) (o := v8) (a := a22) (ci := 7) (k := 0) (v := va_rf v23) (C := RX15) (T := TX15) (N := 4) hx hb hts hown hE hk hH in_X15 rfl (by decide) (hts _ q1648) (fun _ h9 => h9) ea22 (rdR_o e23) dX0_dead_44 ?_
        obtain ⟨a24, ea24, hf⟩ := bdo hf
        obtain ⟨v25, e25, hf⟩ := bdo hf
        refine g_get (pc := 47) (o := v23) (a := a24) (ci := 5) (k := 0) (v := .int v25) (C := RX11) (T := TX11) (N := 6) hx hb hts hown hE hk hH in_X11 rfl (by decide) (hts _ q1549) (fun _ h9 => h9) ea24 (rdI_o e25) dX0_dead_47 ?_
        refine lv_goto (pc := 50) (tgt := 84) hx hb dX0_dead_50 (by decide) ?_
        exact g_iret (pc := 84) hx hb hr hlk hH hS hkc hks hf dX0_dead_84
    · rw [if_pos c4] at hf
      exact wX0_dead_b17 hk hJ hc l0 S3 _ _ ls _ _ _ _ hkc hks hH hS (lv_sub hl [0] rfl) hf
theorem mX0_dead {l : Launch} {G : gG} {Rp : gM → gM → Nat → Prop} (hk : rOK Rp) (hJ : JDK l G Rp) {S S2 : gS} {r2 : Int32} {C N : Nat} {l0 : Nat} {l1 : Int32} {l2 : Int32} (hf : fX0_dead l0 l1 l2 S = some (r2, S2, C, N)) : gMet l yX0_dead cX0_dead 4 (some .int) 16 561 G Rp [.ref l0, .int l1, .int l2] S (some (.int r2)) S2 C N := by
  refine g_start (by decide) (Nat.le_of_ble_eq_true rfl) (fun p e s m args below meth c ls hc hl hH => ?_)
  have hl : lv_has ls 4 [(0, .ref l0), (1, .int l1), (2, .int l2)] := hl
  exact wX0_dead_b0 hk hJ hc l0 l1 l2 S _ _ ls 0 0 C N (by omega) (by omega) hH va_S.rf (lv_sub hl [0, 1, 2] rfl) hf
end
end
