/-! printed by gen/cgen.py: methods of the component, lifted and walked (4) -/
set_option maxRecDepth 100000
set_option maxHeartbeats 4000000
section
variable {p : Program} {l : Launch} {e : Env} {s : State} {m : MethodId} {args : Array Value} {below : List Frame} {meth : Method} {c : Code} {G : gG} {Rp : gM → gM → Nat → Prop} {mc ms : Nat}
section
variable {r : Unit} {Sf : gS}
def fX12_init_2_c14 (l0 : Nat) (l1 : Int32) (l2 : Option Nat) (l3 : Int32) (S : gS) : gO Unit :=
  bd (wr S l0 14 0 (.int l1)) fun S2 =>
  bd (wr S2 l0 14 1 (va_rf l2)) fun S3 =>
  bd (wr S3 l0 14 2 (.int l3)) fun S4 =>
  some ((), S4, 0, 0)
theorem wX12_init_2_c14_b0 (hk : rOK Rp) (hJ : JDK l G Rp) (hc : gC p s m args meth c G RX12 "<init>" cX12_init_2 4 (none)) (l0 : Nat) (l1 : Int32) (l2 : Option Nat) (l3 : Int32) (S : gS) (H : Heap) (locs : List Loc) (ls : Array Slot) (kc ks C N : Nat) (hkc : kc + C ≤ mc) (hks : ks + N ≤ ms) (hH : hp G Rp S H) (hS : va_S G.2.2.2 s.heap H locs) (hl : lv_has ls 4 [(0, .ref l0), (1, .int l1), (2, va_rf l2), (3, .int l3)]) (hf : fX12_init_2_c14 l0 l1 l2 l3 S = some (r, Sf, C, N)) : W p l e (gR 1 40 mc ms) s m args below meth c H locs kc ks (gQ below G Rp none Sf args s mc ms) (F0 m 0 ls []) := by
  obtain ⟨hx, hb, hr, hlk, hml, hown, hts, hE, hA, hnm⟩ := hc
  have hc : gC p s m args meth c G RX12 "<init>" cX12_init_2 4 (none) := ⟨hx, hb, hr, hlk, hml, hown, hts, hE, hA, hnm⟩
  unfold fX12_init_2_c14 at hf
  refine lv_aload_n (pc := 0) hx hb dX12_init_2_0 rfl (lv_at hl 0 rfl) ?_
  refine W.objInit  hx hb hown (hts _ q1620) (hts _ q169) (hts _ q170) rfl (by rw [hml]; exact hl.1) rfl dX12_init_2_1 (Nat.le_of_ble_eq_true rfl) (Nat.le_of_ble_eq_true rfl) ?_
  refine W.eq (g2 := F0 m 4 ls []) rfl ?_
  refine lv_aload_n (pc := 4) hx hb dX12_init_2_4 rfl (lv_at hl 0 rfl) ?_
  refine lv_iload_n (pc := 5) hx hb dX12_init_2_5 rfl (lv_at hl 1 rfl) ?_
  obtain ⟨S2, e2, hf⟩ := bdo hf
  refine g_putF (pc := 6) (o := (some l0)) (a := l0) (ci := 14) (k := 0) (v := .int l1) (C := RX14) (T := TX14) (N := 4) (ty := .int) hx hb hts hown hE hk hH hS rfl in_X14 tyX14_ok nmX14 rfl (by decide) (hts _ q1623) (fun _ h9 => h9) rfl hnm rfl rfl rfl rfl rfl e2 dX12_init_2_6 (fun H locs hH hS => ?_)
  refine lv_aload_n (pc := 9) hx hb dX12_init_2_9 rfl (lv_at hl 0 rfl) ?_
  refine g_aload_n (pc := 10) (o := l2) hx hb dX12_init_2_10 rfl (lv_at hl 2 rfl) ?_
  obtain ⟨S3, e3, hf⟩ := bdo hf
  refine g_putF (pc := 11) (o := (some l0)) (a := l0) (ci := 14) (k := 1) (v := va_rf l2) (C := RX14) (T := TX14) (N := 4) (ty := .object "CreditBroker$Cause") hx hb hts hown hE hk hH hS rfl in_X14 tyX14_ok nmX14 rfl (by decide) (hts _ q1625) (fun _ h9 => h9) rfl hnm rfl rfl (nar_rf _ _) (fit_rf _ _) rfl e3 dX12_init_2_11 (fun H locs hH hS => ?_)
  refine lv_aload_n (pc := 14) hx hb dX12_init_2_14 rfl (lv_at hl 0 rfl) ?_
  refine lv_iload_n (pc := 15) hx hb dX12_init_2_15 rfl (lv_at hl 3 rfl) ?_
  obtain ⟨S4, e4, hf⟩ := bdo hf
  refine g_putF (pc := 16) (o := (some l0)) (a := l0) (ci := 14) (k := 2) (v := .int l3) (C := RX14) (T := TX14) (N := 4) (ty := .int) hx hb hts hown hE hk hH hS rfl in_X14 tyX14_ok nmX14 rfl (by decide) (hts _ q1628) (fun _ h9 => h9) rfl hnm rfl rfl rfl rfl rfl e4 dX12_init_2_16 (fun H locs hH hS => ?_)
  exact g_vret (pc := 19) hx hb hr hlk hH hS hkc hks hf dX12_init_2_19
theorem mX12_init_2_c14 {l : Launch} {G : gG} {Rp : gM → gM → Nat → Prop} (hk : rOK Rp) (hJ : JDK l G Rp) {S S2 : gS} {r2 : Unit} {C N : Nat} {l0 : Nat} {l1 : Int32} {l2 : Option Nat} {l3 : Int32} (hf : fX12_init_2_c14 l0 l1 l2 l3 S = some (r2, S2, C, N)) : gMet l yX12_init_2 cX12_init_2 4 (none) 1 40 G Rp [.ref l0, .int l1, va_rf l2, .int l3] S none S2 C N := by
  refine g_start (by decide) (by simp [lg_sl, va_rf_cat, cat_i, cat_j, cat_r]) (fun p e s m args below meth c ls hc hl hH => ?_)
  have hl : lv_has ls 4 [(0, .ref l0), (1, .int l1), (2, va_rf l2), (3, .int l3)] := by simpa [lv_args, va_rf_cat, cat_i, cat_j, cat_r] using hl
  exact wX12_init_2_c14_b0 hk hJ hc l0 l1 l2 l3 S _ _ ls 0 0 C N (by omega) (by omega) hH va_S.rf (lv_sub hl [0, 1, 2, 3] rfl) hf
end
section
variable {r : Unit} {Sf : gS}
def fX12_init_c14_b17 (t0 : Nat) (t1 : Int32) (t2 : Option Nat) (t3 : Int32) (S : gS) : gO Unit :=
  gb (fX12_init_2_c14 t0 t1 t2 t3 S) fun _ S1 =>
  some ((), S1, 0, 0)
theorem wX12_init_c14_b17 (hk : rOK Rp) (hJ : JDK l G Rp) (hc : gC p s m args meth c G RX12 "<init>" cX12_init 3 (none)) (t0 : Nat) (t1 : Int32) (t2 : Option Nat) (t3 : Int32) (S : gS) (H : Heap) (locs : List Loc) (ls : Array Slot) (kc ks C N : Nat) (hkc : kc + C ≤ mc) (hks : ks + N ≤ ms) (hH : hp G Rp S H) (hS : va_S G.2.2.2 s.heap H locs) (hl : lv_has ls 3 []) (hf : fX12_init_c14_b17 t0 t1 t2 t3 S = some (r, Sf, C, N)) : W p l e (gR 2 63 mc ms) s m args below meth c H locs kc ks (gQ below G Rp none Sf args s mc ms) (F0 m 17 ls [.int t3, va_rf t2, .int t1, .ref t0]) := by
  obtain ⟨hx, hb, hr, hlk, hml, hown, hts, hE, hA, hnm⟩ := hc
  have hc : gC p s m args meth c G RX12 "<init>" cX12_init 3 (none) := ⟨hx, hb, hr, hlk, hml, hown, hts, hE, hA, hnm⟩
  unfold fX12_init_c14_b17 at hf
  obtain ⟨_, S1, c1, n1, c2_1, n2_1, e1, hf, hC1, hN1⟩ := gbo hf
  refine g_callI (pc := 17) (o := (some t0)) (b := t0) (As := [.int t1, va_rf t2, .int t3]) (rest := []) hc (mX12_init_2_c14 hk hJ (l0 := t0) (l1 := t1) (l2 := t2) (l3 := t3) e1) (cwI 3 hts (lw_meth q1619) rfl rfl rfl (hts _ q139) (hts _ q1617) (hts _ q1618) rfl hdiX12_init_2 ⟨Nat.le_of_ble_eq_true rfl, Nat.le_of_ble_eq_true rfl⟩) rfl rfl hl.1 rfl (lv_room (Nat.le_of_ble_eq_true rfl)) dX12_init_17 hH hS (by omega) (by omega) (fun H locs hH hS => ?_)
  have hkc : kc + c1 + c2_1 ≤ mc := by omega
  have hks : ks + n1 + n2_1 ≤ ms := by omega
  exact g_vret (pc := 20) hx hb hr hlk hH hS hkc hks hf dX12_init_20
def fX12_init_c14 (l0 : Nat) (l1 : Int32) (l2 : Option Nat) (S : gS) : gO Unit :=
  if l2 = none then
    fX12_init_c14_b17 l0 l1 l2 (nI 1) S
  else
    bd l2 fun a2 =>
    bd (rdPI S a2 2) fun v3 =>
    fX12_init_c14_b17 l0 l1 l2 (v3 + (nI 1)) S
theorem wX12_init_c14_b0 (hk : rOK Rp) (hJ : JDK l G Rp) (hc : gC p s m args meth c G RX12 "<init>" cX12_init 3 (none)) (l0 : Nat) (l1 : Int32) (l2 : Option Nat) (S : gS) (H : Heap) (locs : List Loc) (ls : Array Slot) (kc ks C N : Nat) (hkc : kc + C ≤ mc) (hks : ks + N ≤ ms) (hH : hp G Rp S H) (hS : va_S G.2.2.2 s.heap H locs) (hl : lv_has ls 3 [(0, .ref l0), (1, .int l1), (2, va_rf l2)]) (hf : fX12_init_c14 l0 l1 l2 S = some (r, Sf, C, N)) : W p l e (gR 2 63 mc ms) s m args below meth c H locs kc ks (gQ below G Rp none Sf args s mc ms) (F0 m 0 ls []) := by
  obtain ⟨hx, hb, hr, hlk, hml, hown, hts, hE, hA, hnm⟩ := hc
  have hc : gC p s m args meth c G RX12 "<init>" cX12_init 3 (none) := ⟨hx, hb, hr, hlk, hml, hown, hts, hE, hA, hnm⟩
  unfold fX12_init_c14 at hf
  refine lv_aload_n (pc := 0) hx hb dX12_init_0 rfl (lv_at hl 0 rfl) ?_
  refine lv_iload_n (pc := 1) hx hb dX12_init_1 rfl (lv_at hl 1 rfl) ?_
  refine g_aload_n (pc := 2) (o := l2) hx hb dX12_init_2 rfl (lv_at hl 2 rfl) ?_
  refine g_aload_n (pc := 3) (o := l2) hx hb dX12_init_3 rfl (lv_at hl 2 rfl) ?_
  refine g_ifnonnull (pc := 4) (o := l2) (tgt := 11) hx hb dX12_init_4 (by decide) (fun c1 => ?_) (fun c1 => ?_)
  · rw [if_neg c1] at hf
    refine g_aload_n (pc := 11) (o := l2) hx hb dX12_init_11 rfl (lv_at hl 2 rfl) ?_
    obtain ⟨a2, ea2, hf⟩ := bdo hf
    obtain ⟨v3, e3, hf⟩ := bdo hf
    refine g_getP (pc := 12) (o := l2) (a := a2) (k := 2) (v := .int v3) (ref := "CreditBroker$Cause") hx hb hts hown hE hk hH (by decide) (hts _ q1628) (fun _ h9 => h9) ea2 (rdPI_o e3) dX12_init_12 ?_
    refine lv_iconst (pc := 15) (v := nI 1) hx hb dX12_init_15 rfl ?_
    refine lv_iadd (pc := 16) hx hb dX12_init_16 ?_
    exact wX12_init_c14_b17 hk hJ hc l0 l1 l2 (v3 + (nI 1)) S _ _ ls _ _ _ _ hkc hks hH hS (lv_sub hl [] rfl) hf
  · rw [if_pos c1] at hf
    refine lv_iconst (pc := 7) (v := nI 1) hx hb dX12_init_7 rfl ?_
    refine lv_goto (pc := 8) (tgt := 17) hx hb dX12_init_8 (by decide) ?_
    exact wX12_init_c14_b17 hk hJ hc l0 l1 l2 (nI 1) S _ _ ls _ _ _ _ hkc hks hH hS (lv_sub hl [] rfl) hf
theorem mX12_init_c14 {l : Launch} {G : gG} {Rp : gM → gM → Nat → Prop} (hk : rOK Rp) (hJ : JDK l G Rp) {S S2 : gS} {r2 : Unit} {C N : Nat} {l0 : Nat} {l1 : Int32} {l2 : Option Nat} (hf : fX12_init_c14 l0 l1 l2 S = some (r2, S2, C, N)) : gMet l yX12_init cX12_init 3 (none) 2 63 G Rp [.ref l0, .int l1, va_rf l2] S none S2 C N := by
  refine g_start (by decide) (by simp [lg_sl, va_rf_cat, cat_i, cat_j, cat_r]) (fun p e s m args below meth c ls hc hl hH => ?_)
  have hl : lv_has ls 3 [(0, .ref l0), (1, .int l1), (2, va_rf l2)] := by simpa [lv_args, va_rf_cat, cat_i, cat_j, cat_r] using hl
  exact wX12_init_c14_b0 hk hJ hc l0 l1 l2 S _ _ ls 0 0 C N (by omega) (by omega) hH va_S.rf (lv_sub hl [0, 1, 2] rfl) hf
end
section
variable {r : Unit} {Sf : gS}
def fX13_init_c14 (l0 : Nat) (l1 : Int32) (l2 : Option Nat) (S : gS) : gO Unit :=
  gb (fX12_init_c14 l0 l1 l2 S) fun _ S1 =>
  some ((), S1, 0, 0)
theorem wX13_init_c14_b0 (hk : rOK Rp) (hJ : JDK l G Rp) (hc : gC p s m args meth c G RX13 "<init>" cX13_init 3 (none)) (l0 : Nat) (l1 : Int32) (l2 : Option Nat) (S : gS) (H : Heap) (locs : List Loc) (ls : Array Slot) (kc ks C N : Nat) (hkc : kc + C ≤ mc) (hks : ks + N ≤ ms) (hH : hp G Rp S H) (hS : va_S G.2.2.2 s.heap H locs) (hl : lv_has ls 3 [(0, .ref l0), (1, .int l1), (2, va_rf l2)]) (hf : fX13_init_c14 l0 l1 l2 S = some (r, Sf, C, N)) : W p l e (gR 3 85 mc ms) s m args below meth c H locs kc ks (gQ below G Rp none Sf args s mc ms) (F0 m 0 ls []) := by
  obtain ⟨hx, hb, hr, hlk, hml, hown, hts, hE, hA, hnm⟩ := hc
  have hc : gC p s m args meth c G RX13 "<init>" cX13_init 3 (none) := ⟨hx, hb, hr, hlk, hml, hown, hts, hE, hA, hnm⟩
  unfold fX13_init_c14 at hf
  refine lv_aload_n (pc := 0) hx hb dX13_init_0 rfl (lv_at hl 0 rfl) ?_
  refine lv_iload_n (pc := 1) hx hb dX13_init_1 rfl (lv_at hl 1 rfl) ?_
  refine g_aload_n (pc := 2) (o := l2) hx hb dX13_init_2 rfl (lv_at hl 2 rfl) ?_
  obtain ⟨_, S1, c1, n1, c2_1, n2_1, e1, hf, hC1, hN1⟩ := gbo hf
  refine g_callI (pc := 3) (o := (some l0)) (b := l0) (As := [.int l1, va_rf l2]) (rest := []) hc (mX12_init_c14 hk hJ (l0 := l0) (l1 := l1) (l2 := l2) e1) (cwI 2 hts (lw_meth q1616) rfl rfl rfl (hts _ q139) (hts _ q1614) (hts _ q1615) rfl hdiX12_init ⟨Nat.le_of_ble_eq_true rfl, Nat.le_of_ble_eq_true rfl⟩) rfl rfl hl.1 rfl (lv_room (Nat.le_of_ble_eq_true rfl)) dX13_init_3 hH hS (by omega) (by omega) (fun H locs hH hS => ?_)
  have hkc : kc + c1 + c2_1 ≤ mc := by omega
  have hks : ks + n1 + n2_1 ≤ ms := by omega
  exact g_vret (pc := 6) hx hb hr hlk hH hS hkc hks hf dX13_init_6
theorem mX13_init_c14 {l : Launch} {G : gG} {Rp : gM → gM → Nat → Prop} (hk : rOK Rp) (hJ : JDK l G Rp) {S S2 : gS} {r2 : Unit} {C N : Nat} {l0 : Nat} {l1 : Int32} {l2 : Option Nat} (hf : fX13_init_c14 l0 l1 l2 S = some (r2, S2, C, N)) : gMet l yX13_init cX13_init 3 (none) 3 85 G Rp [.ref l0, .int l1, va_rf l2] S none S2 C N := by
  refine g_start (by decide) (by simp [lg_sl, va_rf_cat, cat_i, cat_j, cat_r]) (fun p e s m args below meth c ls hc hl hH => ?_)
  have hl : lv_has ls 3 [(0, .ref l0), (1, .int l1), (2, va_rf l2)] := by simpa [lv_args, va_rf_cat, cat_i, cat_j, cat_r] using hl
  exact wX13_init_c14_b0 hk hJ hc l0 l1 l2 S _ _ ls 0 0 C N (by omega) (by omega) hH va_S.rf (lv_sub hl [0, 1, 2] rfl) hf
end
section
variable {r : Unit} {Sf : gS}
def fX14_init (l0 : Nat) (l1 : Int32) (l2 : Int32) (S : gS) : gO Unit :=
  gb (fX13_init_c14 l0 l1 none S) fun _ S1 =>
  bd (wr S1 l0 14 3 (.int l2)) fun S2 =>
  some ((), S2, 0, 0)
theorem wX14_init_b0 (hk : rOK Rp) (hJ : JDK l G Rp) (hc : gC p s m args meth c G RX14 "<init>" cX14_init 3 (none)) (l0 : Nat) (l1 : Int32) (l2 : Int32) (S : gS) (H : Heap) (locs : List Loc) (ls : Array Slot) (kc ks C N : Nat) (hkc : kc + C ≤ mc) (hks : ks + N ≤ ms) (hH : hp G Rp S H) (hS : va_S G.2.2.2 s.heap H locs) (hl : lv_has ls 3 [(0, .ref l0), (1, .int l1), (2, .int l2)]) (hf : fX14_init l0 l1 l2 S = some (r, Sf, C, N)) : W p l e (gR 4 107 mc ms) s m args below meth c H locs kc ks (gQ below G Rp none Sf args s mc ms) (F0 m 0 ls []) := by
  obtain ⟨hx, hb, hr, hlk, hml, hown, hts, hE, hA, hnm⟩ := hc
  have hc : gC p s m args meth c G RX14 "<init>" cX14_init 3 (none) := ⟨hx, hb, hr, hlk, hml, hown, hts, hE, hA, hnm⟩
  unfold fX14_init at hf
  refine lv_aload_n (pc := 0) hx hb dX14_init_0 rfl (lv_at hl 0 rfl) ?_
  refine lv_iload_n (pc := 1) hx hb dX14_init_1 rfl (lv_at hl 1 rfl) ?_
  refine lv_null (pc := 2) hx hb dX14_init_2 ?_
  obtain ⟨_, S1, c1, n1, c2_1, n2_1, e1, hf, hC1, hN1⟩ := gbo hf
  refine g_callI (pc := 3) (o := (some l0)) (b := l0) (As := [.int l1, va_rf none]) (rest := []) hc (mX13_init_c14 hk hJ (l0 := l0) (l1 := l1) (l2 := none) e1) (cwI 2 hts (lw_meth q1613) rfl rfl rfl (hts _ q140) (hts _ q1611) (hts _ q1612) rfl hdiX13_init ⟨Nat.le_of_ble_eq_true rfl, Nat.le_of_ble_eq_true rfl⟩) rfl rfl hl.1 rfl (lv_room (Nat.le_of_ble_eq_true rfl)) dX14_init_3 hH hS (by omega) (by omega) (fun H locs hH hS => ?_)
  have hkc : kc + c1 + c2_1 ≤ mc := by omega
  have hks : ks + n1 + n2_1 ≤ ms := by omega
  refine lv_aload_n (pc := 6) hx hb dX14_init_6 rfl (lv_at hl 0 rfl) ?_
  refine lv_iload_n (pc := 7) hx hb dX14_init_7 rfl (lv_at hl 2 rfl) ?_
  obtain ⟨S2, e2, hf⟩ := bdo hf
  refine g_putF (pc := 8) (o := (some l0)) (a := l0) (ci := 14) (k := 3) (v := .int l2) (C := RX14) (T := TX14) (N := 4) (ty := .int) hx hb hts hown hE hk hH hS rfl in_X14 tyX14_ok nmX14 rfl (by decide) (hts _ q1621) (fun _ h9 => h9) rfl hnm rfl rfl rfl rfl rfl e2 dX14_init_8 (fun H locs hH hS => ?_)
  exact g_vret (pc := 11) hx hb hr hlk hH hS hkc hks hf dX14_init_11
theorem mX14_init {l : Launch} {G : gG} {Rp : gM → gM → Nat → Prop} (hk : rOK Rp) (hJ : JDK l G Rp) {S S2 : gS} {r2 : Unit} {C N : Nat} {l0 : Nat} {l1 : Int32} {l2 : Int32} (hf : fX14_init l0 l1 l2 S = some (r2, S2, C, N)) : gMet l yX14_init cX14_init 3 (none) 4 107 G Rp [.ref l0, .int l1, .int l2] S none S2 C N := by
  refine g_start (by decide) (Nat.le_of_ble_eq_true rfl) (fun p e s m args below meth c ls hc hl hH => ?_)
  have hl : lv_has ls 3 [(0, .ref l0), (1, .int l1), (2, .int l2)] := hl
  exact wX14_init_b0 hk hJ hc l0 l1 l2 S _ _ ls 0 0 C N (by omega) (by omega) hH va_S.rf (lv_sub hl [0, 1, 2] rfl) hf
end
section
variable {r : Unit} {Sf : gS}
def fX15_init (l0 : Nat) (l1 : Option Nat) (l2 : Int32) (l3 : Option Nat) (S : gS) : gO Unit :=
  bd (wr S l0 7 0 (va_rf l1)) fun S2 =>
  bd (wr S2 l0 7 1 (.int l2)) fun S3 =>
  bd (wr S3 l0 7 3 (va_rf l3)) fun S4 =>
  bd l3 fun a5 =>
  bd (rdPI S4 a5 0) fun v6 =>
  bd (wr S4 l0 7 2 (.int v6)) fun S7 =>
  some ((), S7, 0, 0)
theorem wX15_init_b0 (hk : rOK Rp) (hJ : JDK l G Rp) (hc : gC p s m args meth c G RX15 "<init>" cX15_init 4 (none)) (l0 : Nat) (l1 : Option Nat) (l2 : Int32) (l3 : Option Nat) (S : gS) (H : Heap) (locs : List Loc) (ls : Array Slot) (kc ks C N : Nat) (hkc : kc + C ≤ mc) (hks : ks + N ≤ ms) (hH : hp G Rp S H) (hS : va_S G.2.2.2 s.heap H locs) (hl : lv_has ls 4 [(0, .ref l0), (1, va_rf l1), (2, .int l2), (3, va_rf l3)]) (hf : fX15_init l0 l1 l2 l3 S = some (r, Sf, C, N)) : W p l e (gR 1 40 mc ms) s m args below meth c H locs kc ks (gQ below G Rp none Sf args s mc ms) (F0 m 0 ls []) := by
  obtain ⟨hx, hb, hr, hlk, hml, hown, hts, hE, hA, hnm⟩ := hc
  have hc : gC p s m args meth c G RX15 "<init>" cX15_init 4 (none) := ⟨hx, hb, hr, hlk, hml, hown, hts, hE, hA, hnm⟩
  unfold fX15_init at hf
  refine lv_aload_n (pc := 0) hx hb dX15_init_0 rfl (lv_at hl 0 rfl) ?_
  refine W.objInit  hx hb hown (hts _ q1646) (hts _ q169) (hts _ q170) rfl (by rw [hml]; exact hl.1) rfl dX15_init_1 (Nat.le_of_ble_eq_true rfl) (Nat.le_of_ble_eq_true rfl) ?_
  refine W.eq (g2 := F0 m 4 ls []) rfl ?_
  refine lv_aload_n (pc := 4) hx hb dX15_init_4 rfl (lv_at hl 0 rfl) ?_
  refine g_aload_n (pc := 5) (o := l1) hx hb dX15_init_5 rfl (lv_at hl 1 rfl) ?_
  obtain ⟨S2, e2, hf⟩ := bdo hf
  refine g_putF (pc := 6) (o := (some l0)) (a := l0) (ci := 7) (k := 0) (v := va_rf l1) (C := RX15) (T := TX15) (N := 4) (ty := .object "CreditBroker$Message") hx hb hts hown hE hk hH hS rfl in_X15 tyX15_ok nmX15 rfl (by decide) (hts _ q1647) (fun _ h9 => h9) rfl hnm rfl rfl (nar_rf _ _) (fit_rf _ _) rfl e2 dX15_init_6 (fun H locs hH hS => ?_)
  refine lv_aload_n (pc := 9) hx hb dX15_init_9 rfl (lv_at hl 0 rfl) ?_
  refine lv_iload_n (pc := 10) hx hb dX15_init_10 rfl (lv_at hl 2 rfl) ?_
  obtain ⟨S3, e3, hf⟩ := bdo hf
  refine g_putF (pc := 11) (o := (some l0)) (a := l0) (ci := 7) (k := 1) (v := .int l2) (C := RX15) (T := TX15) (N := 4) (ty := .int) hx hb hts hown hE hk hH hS rfl in_X15 tyX15_ok nmX15 rfl (by decide) (hts _ q1649) (fun _ h9 => h9) rfl hnm rfl rfl rfl rfl rfl e3 dX15_init_11 (fun H locs hH hS => ?_)
  refine lv_aload_n (pc := 14) hx hb dX15_init_14 rfl (lv_at hl 0 rfl) ?_
  refine g_aload_n (pc := 15) (o := l3) hx hb dX15_init_15 rfl (lv_at hl 3 rfl) ?_
  obtain ⟨S4, e4, hf⟩ := bdo hf
  refine g_putF (pc := 16) (o := (some l0)) (a := l0) (ci := 7) (k := 3) (v := va_rf l3) (C := RX15) (T := TX15) (N := 4) (ty := .object "CreditBroker$Cause") hx hb hts hown hE hk hH hS rfl in_X15 tyX15_ok nmX15 rfl (by decide) (hts _ q1653) (fun _ h9 => h9) rfl hnm rfl rfl (nar_rf _ _) (fit_rf _ _) rfl e4 dX15_init_16 (fun H locs hH hS => ?_)
  refine lv_aload_n (pc := 19) hx hb dX15_init_19 rfl (lv_at hl 0 rfl) ?_
  refine g_aload_n (pc := 20) (o := l3) hx hb dX15_init_20 rfl (lv_at hl 3 rfl) ?_
  obtain ⟨a5, ea5, hf⟩ := bdo hf
  obtain ⟨v6, e6, hf⟩ := bdo hf
  refine g_getP (pc := 21) (o := l3) (a := a5) (k := 0) (v := .int v6) (ref := "CreditBroker$Cause") hx hb hts hown hE hk hH (by decide) (hts _ q1622) (fun _ h9 => h9) ea5 (rdPI_o e6) dX15_init_21 ?_
  obtain ⟨S7, e7, hf⟩ := bdo hf
  refine g_putF (pc := 24) (o := (some l0)) (a := l0) (ci := 7) (k := 2) (v := .int v6) (C := RX15) (T := TX15) (N := 4) (ty := .int) hx hb hts hown hE hk hH hS rfl in_X15 tyX15_ok nmX15 rfl (by decide) (hts _ q1651) (fun _ h9 => h9) rfl hnm rfl rfl rfl rfl rfl e7 dX15_init_24 (fun H locs hH hS => ?_)
  exact g_vret (pc := 27) hx hb hr hlk hH hS hkc hks hf dX15_init_27
theorem mX15_init {l : Launch} {G : gG} {Rp : gM → gM → Nat → Prop} (hk : rOK Rp) (hJ : JDK l G Rp) {S S2 : gS} {r2 : Unit} {C N : Nat} {l0 : Nat} {l1 : Option Nat} {l2 : Int32} {l3 : Option Nat} (hf : fX15_init l0 l1 l2 l3 S = some (r2, S2, C, N)) : gMet l yX15_init cX15_init 4 (none) 1 40 G Rp [.ref l0, va_rf l1, .int l2, va_rf l3] S none S2 C N := by
  refine g_start (by decide) (by simp [lg_sl, va_rf_cat, cat_i, cat_j, cat_r]) (fun p e s m args below meth c ls hc hl hH => ?_)
  have hl : lv_has ls 4 [(0, .ref l0), (1, va_rf l1), (2, .int l2), (3, va_rf l3)] := by simpa [lv_args, va_rf_cat, cat_i, cat_j, cat_r] using hl
  exact wX15_init_b0 hk hJ hc l0 l1 l2 l3 S _ _ ls 0 0 C N (by omega) (by omega) hH va_S.rf (lv_sub hl [0, 1, 2, 3] rfl) hf
end
section
variable {r : Unit} {Sf : gS}
def fX1_buries_b40 (l1 : Option Nat) (S : gS) : gO Unit :=
  bd l1 fun a1 =>
  bd (rdI S a1 3 12) fun v2 =>
  bd (wr S a1 3 12 (.int (v2 + (nI 1)))) fun S3 =>
  some ((), S3, 0, 0)
theorem wX1_buries_b40 (hk : rOK Rp) (hJ : JDK l G Rp) (hc : gC p s m args meth c G RX1 "buries" cX1_buries 4 (none)) (l1 : Option Nat) (S : gS) (H : Heap) (locs : List Loc) (ls : Array Slot) (kc ks C N : Nat) (hkc : kc + C ≤ mc) (hks : ks + N ≤ ms) (hH : hp G Rp S H) (hS : va_S G.2.2.2 s.heap H locs) (hl : lv_has ls 4 [(1, va_rf l1)]) (hf : fX1_buries_b40 l1 S = some (r, Sf, C, N)) : W p l e (gR 15 540 mc ms) s m args below meth c H locs kc ks (gQ below G Rp none Sf args s mc ms) (F0 m 40 ls []) := by
  obtain ⟨hx, hb, hr, hlk, hml, hown, hts, hE, hA, hnm⟩ := hc
  have hc : gC p s m args meth c G RX1 "buries" cX1_buries 4 (none) := ⟨hx, hb, hr, hlk, hml, hown, hts, hE, hA, hnm⟩
  unfold fX1_buries_b40 at hf
  refine g_aload_n (pc := 40) (o := l1) hx hb dX1_buries_40 rfl (lv_at hl 0 rfl) ?_
  refine lv_dup (pc := 41) hx hb dX1_buries_41 (va_rf_cat _) ?_
  obtain ⟨a1, ea1, hf⟩ := bdo hf
  obtain ⟨v2, e2, hf⟩ := bdo hf
  refine g_get (pc := 42) (o := l1) (a := a1) (ci := 3) (k := 12) (v := .int v2) (C := RX8) (T := TX8) (N := 13) hx hb hts hown hE hk hH in_X8 rfl (by decide) (hts _ q1180) (fun _ h9 => h9) ea1 (rdI_o e2) dX1_buries_42 ?_
  refine lv_iconst (pc := 45) (v := nI 1) hx hb dX1_buries_45 rfl ?_
  refine lv_iadd (pc := 46) hx hb dX1_buries_46 ?_
  obtain ⟨S3, e3, hf⟩ := bdo hf
  refine g_put (pc := 47) (o := l1) (a := a1) (ci := 3) (k := 12) (v := .int (v2 + (nI 1))) (C := RX8) (T := TX8) (N := 13) (ty := .int) hx hb hts hown hE hk hH hS rfl in_X8 tyX8_ok nmX8 rfl (by decide) (hts _ q1180) (fun _ h9 => h9) rfl rfl rfl rfl ea1 e3 dX1_buries_47 (fun H locs hH hS => ?_)
  exact g_vret (pc := 50) hx hb hr hlk hH hS hkc hks hf dX1_buries_50
def fX1_buries (l0 : Nat) (l1 : Option Nat) (l2 : Option Nat) (l3 : Option Nat) (S : gS) : gO Unit :=
  bd (rdR S l0 1 3) fun v1 =>
  nw S (cO 7 [.null, .int 0, .int 0, .null]) 4 fun S2 =>
  bd l1 fun a3 =>
  bd (rdI S2 a3 3 0) fun v4 =>
  gb (fX15_init S.2 l2 v4 l3 S2) fun _ S5 =>
  bd v1 fun a7 =>
  gb (nLL_addLast a7 (some S.2) S5) fun _ S6 =>
  bd (rdR S6 l0 1 3) fun v8 =>
  bd v8 fun a10 =>
  gb (nLL_size a10  S6) fun v9 S9 =>
  if v9 ≤ (nI 30) then
    fX1_buries_b40 l1 S9
  else
    bd (rdR S9 l0 1 3) fun v12 =>
    bd v12 fun a14 =>
    gb (nLL_removeFirst a14  S9) fun v13 S13 =>
    fX1_buries_b40 l1 S13
theorem wX1_buries_b0 (hk : rOK Rp) (hJ : JDK l G Rp) (hc : gC p s m args meth c G RX1 "buries" cX1_buries 4 (none)) (l0 : Nat) (l1 : Option Nat) (l2 : Option Nat) (l3 : Option Nat) (S : gS) (H : Heap) (locs : List Loc) (ls : Array Slot) (kc ks C N : Nat) (hkc : kc + C ≤ mc) (hks : ks + N ≤ ms) (hH : hp G Rp S H) (hS : va_S G.2.2.2 s.heap H locs) (hl : lv_has ls 4 [(0, .ref l0), (1, va_rf l1), (2, va_rf l2), (3, va_rf l3)]) (hf : fX1_buries l0 l1 l2 l3 S = some (r, Sf, C, N)) : W p l e (gR 15 540 mc ms) s m args below meth c H locs kc ks (gQ below G Rp none Sf args s mc ms) (F0 m 0 ls []) := by
  obtain ⟨hx, hb, hr, hlk, hml, hown, hts, hE, hA, hnm⟩ := hc
  have hc : gC p s m args meth c G RX1 "buries" cX1_buries 4 (none) := ⟨hx, hb, hr, hlk, hml, hown, hts, hE, hA, hnm⟩
  unfold fX1_buries at hf
  refine lv_aload_n (pc := 0) hx hb dX1_buries_0 rfl (lv_at hl 0 rfl) ?_
  obtain ⟨v1, e1, hf⟩ := bdo hf
  refine g_get (pc := 1) (o := (some l0)) (a := l0) (ci := 1) (k := 3) (v := va_rf v1) (C := RX1) (T := TX1) (N := 7) hx hb hts hown hE hk hH in_X1 rfl (by decide) (hts _ q237) (fun _ h9 => h9) rfl (rdR_o e1) dX1_buries_1 ?_
  obtain ⟨S2, c2_2, n2_2, eS2, hf, hC2, hN2⟩ := nwo hf
  refine g_newo (pc := 4) (ci := 7) (C := RX15) (T := TX15) (N := 4) (fs := [.null, .int 0, .int 0, .null]) hx hb hts hown hE hA hk hH hS in_X15 tyX15_ok q1641 q1642 q142 rfl (fun j hj => by rcases (show j = 0 ∨ j = 1 ∨ j = 2 ∨ j = 3 by omega) with rfl | rfl | rfl | rfl <;> rfl) eS2 (Nat.le_trans (by omega) hkc) (Nat.le_trans (by omega) hks) dX1_buries_4 (fun H hH hS => ?_)
  have hkc : kc + 1 + c2_2 ≤ mc := by omega
  have hks : ks + 4 + n2_2 ≤ ms := by omega
  refine lv_dup (pc := 7) hx hb dX1_buries_7 rfl ?_
  refine g_aload_n (pc := 8) (o := l2) hx hb dX1_buries_8 rfl (lv_at hl 2 rfl) ?_
  refine g_aload_n (pc := 9) (o := l1) hx hb dX1_buries_9 rfl (lv_at hl 1 rfl) ?_
  obtain ⟨a3, ea3, hf⟩ := bdo hf
  obtain ⟨v4, e4, hf⟩ := bdo hf
  refine g_get (pc := 10) (o := l1) (a := a3) (ci := 3) (k := 0) (v := .int v4) (C := RX8) (T := TX8) (N := 13) hx hb hts hown hE hk hH in_X8 rfl (by decide) (hts _ q1151) (fun _ h9 => h9) ea3 (rdI_o e4) dX1_buries_10 ?_
  refine g_aload_n (pc := 13) (o := l3) hx hb dX1_buries_13 rfl (lv_at hl 3 rfl) ?_
  obtain ⟨_, S5, c5, n5, c2_5, n2_5, e5, hf, hC5, hN5⟩ := gbo hf
  refine g_callI (pc := 14) (o := (some S.2)) (b := S.2) (As := [va_rf l2, .int v4, va_rf l3]) (rest := [.ref S.2, va_rf v1]) hc (mX15_init hk hJ (l0 := S.2) (l1 := l2) (l2 := v4) (l3 := l3) e5) (cwI 3 hts (lw_meth q1645) rfl rfl rfl (hts _ q142) (hts _ q1643) (hts _ q1644) rfl hdiX15_init ⟨Nat.le_of_ble_eq_true rfl, Nat.le_of_ble_eq_true rfl⟩) rfl rfl hl.1 rfl (lv_room (by simp [va_rf_cat, cat_i, cat_j, cat_r])) dX1_buries_14 hH hS (by omega) (by omega) (fun H locs hH hS => ?_)
  have hkc : kc + 1 + c5 + c2_5 ≤ mc := by omega
  have hks : ks + 4 + n5 + n2_5 ≤ ms := by omega
  obtain ⟨a7, ea7, hf⟩ := bdo hf
  obtain ⟨_, S6, c6, n6, c2_6, n2_6, e6, hf, hC6, hN6⟩ := gbo hf
  refine g_callV (pc := 17) (o := v1) (b := a7) (As := [.ref S.2]) (rest := []) (st1 := []) hc (j_nLL_addLast hJ a7 (some S.2) S5 () S6 c6 n6 e6) (cwV 1 hts (lw_V q1664 q1665 q1666 q103 q1667) rfl rfl rfl hdJ4_addLast ⟨Nat.le_of_ble_eq_true rfl, Nat.le_of_ble_eq_true rfl⟩) (j_recv hJ _ _ _ _ 1 _ _ hE hH hS (adtR (t := 1) (show bd _ _ = some _ from e6)).choose_spec) ea7 rfl hl.1 rfl rfl (lv_room (Nat.le_of_ble_eq_true rfl)) dX1_buries_17 hH hS (by omega) (by omega) (fun H locs hH hS => ?_)
  have hkc : kc + 1 + c5 + c6 + c2_6 ≤ mc := by omega
  have hks : ks + 4 + n5 + n6 + n2_6 ≤ ms := by omega
  refine lv_aload_n (pc := 20) hx hb dX1_buries_20 rfl (lv_at hl 0 rfl) ?_
  obtain ⟨v8, e8, hf⟩ := bdo hf
  refine g_get (pc := 21) (o := (some l0)) (a := l0) (ci := 1) (k := 3) (v := va_rf v8) (C := RX1) (T := TX1) (N := 7) hx hb hts hown hE hk hH in_X1 rfl (by decide) (hts _ q237) (fun _ h9 => h9) rfl (rdR_o e8) dX1_buries_21 ?_
  obtain ⟨a10, ea10, hf⟩ := bdo hf
  obtain ⟨v9, S9, c9, n9, c2_9, n2_9, e9, hf, hC9, hN9⟩ := gbo hf
  refine g_callV (pc := 24) (o := v8) (b := a10) (As := []) (rest := []) (st1 := [.int v9]) hc (j_nLL_size hJ a10  S6 v9 S9 c9 n9 e9) (cwV 0 hts (lw_V q1693 q577 q578 q103 q579) rfl rfl rfl hdJ4_size ⟨Nat.le_of_ble_eq_true rfl, Nat.le_of_ble_eq_true rfl⟩) (j_recv hJ _ _ _ _ 1 _ _ hE hH hS (adtR (t := 1) (show bd _ _ = some _ from e9)).choose_spec) ea10 rfl hl.1 rfl rfl (lv_room (Nat.le_of_ble_eq_true rfl)) dX1_buries_24 hH hS (by omega) (by omega) (fun H locs hH hS => ?_)
  have hkc : kc + 1 + c5 + c6 + c9 + c2_9 ≤ mc := by omega
  have hks : ks + 4 + n5 + n6 + n9 + n2_9 ≤ ms := by omega
  refine lv_bipush (pc := 27) (v := nI 30) hx hb dX1_buries_27 gkb30 ?_
  refine lv_icmp_le (pc := 29) (tgt := 40) hx hb dX1_buries_29 (by decide) (fun c11 => ?_) (fun c11 => ?_)
  · rw [if_pos c11] at hf
    exact wX1_buries_b40 hk hJ hc l1 S9 _ _ ls _ _ _ _ hkc hks hH hS (lv_sub hl [1] rfl) hf
  · rw [if_neg c11] at hf
    refine lv_aload_n (pc := 32) hx hb dX1_buries_32 rfl (lv_at hl 0 rfl) ?_
    obtain ⟨v12, e12, hf⟩ := bdo hf
    refine g_get (pc := 33) (o := (some l0)) (a := l0) (ci := 1) (k := 3) (v := va_rf v12) (C := RX1) (T := TX1) (N := 7) hx hb hts hown hE hk hH in_X1 rfl (by decide) (hts _ q237) (fun _ h9 => h9) rfl (rdR_o e12) dX1_buries_33 ?_
    obtain ⟨a14, ea14, hf⟩ := bdo hf
    obtain ⟨v13, S13, c13, n13, c2_13, n2_13, e13, hf, hC13, hN13⟩ := gbo hf
    refine g_callV (pc := 36) (o := v12) (b := a14) (As := []) (rest := []) (st1 := [va_rf v13]) hc (j_nLL_removeFirst hJ a14  S9 v13 S13 c13 n13 e13) (cwV 0 hts (lw_V q1694 q1695 q1696 q103 q1697) rfl rfl rfl hdJ4_removeFirst ⟨Nat.le_of_ble_eq_true rfl, Nat.le_of_ble_eq_true rfl⟩) (j_recv hJ _ _ _ _ 1 _ _ hE hH hS (adtR (t := 1) (show bd _ _ = some _ from e13)).choose_spec) ea14 rfl hl.1 rfl rfl (lv_room (Nat.le_of_ble_eq_true rfl)) dX1_buries_36 hH hS (by omega) (by omega) (fun H locs hH hS => ?_)
    have hkc : kc + 1 + c5 + c6 + c9 + c13 + c2_13 ≤ mc := by omega
    have hks : ks + 4 + n5 + n6 + n9 + n13 + n2_13 ≤ ms := by omega
    refine lv_pop (pc := 39) hx hb dX1_buries_39 (va_rf_cat _) ?_
    exact wX1_buries_b40 hk hJ hc l1 S13 _ _ ls _ _ _ _ hkc hks hH hS (lv_sub hl [1] rfl) hf
theorem mX1_buries {l : Launch} {G : gG} {Rp : gM → gM → Nat → Prop} (hk : rOK Rp) (hJ : JDK l G Rp) {S S2 : gS} {r2 : Unit} {C N : Nat} {l0 : Nat} {l1 : Option Nat} {l2 : Option Nat} {l3 : Option Nat} (hf : fX1_buries l0 l1 l2 l3 S = some (r2, S2, C, N)) : gMet l yX1_buries cX1_buries 4 (none) 15 540 G Rp [.ref l0, va_rf l1, va_rf l2, va_rf l3] S none S2 C N := by
  refine g_start (by decide) (by simp [lg_sl, va_rf_cat, cat_i, cat_j, cat_r]) (fun p e s m args below meth c ls hc hl hH => ?_)
  have hl : lv_has ls 4 [(0, .ref l0), (1, va_rf l1), (2, va_rf l2), (3, va_rf l3)] := by simpa [lv_args, va_rf_cat, cat_i, cat_j, cat_r] using hl
  exact wX1_buries_b0 hk hJ hc l0 l1 l2 l3 S _ _ ls 0 0 C N (by omega) (by omega) hH va_S.rf (lv_sub hl [0, 1, 2, 3] rfl) hf
end
section
variable {r : Int32} {Sf : gS}
def fX1_publishes_b41 (G : gG) : Nat → Nat → Nat → Int32 → Int32 → gS → gO Int32
  | 0, _, _, _, _, _ => none
  | n + 1, l0, l2, l3, l4, S =>
    bd (rdR S l0 1 0) fun v1 =>
    bd v1 fun a3 =>
    gb (nAL_size a3  S) fun v2 S2 =>
    if v2 ≤ l4 then
      some (l3, S2, 0, 0)
    else
      bd (rdR S2 l0 1 0) fun v5 =>
      bd v5 fun a7 =>
      gb (nAL_get a7 l4 S2) fun v6 S6 =>
      bd (ckc S6 v6 3) fun _ =>
      bd v6 fun a9 =>
      bd (rdR S6 a9 3 1) fun v10 =>
      bd (rdR S6 l0 1 4) fun v11 =>
      bd v10 fun a13 =>
      bd (chk S6 a13 8) fun _ =>
      gb (fX6_covers G a13 v11 S6) fun v12 S12 =>
      if v12 = 0 then
        fX1_publishes_b41 G n l0 l2 l3 (l4 + (nI 1)) S12
      else
        bd (chk S12 a9 3) fun _ =>
        gb (fX8_isFull a9 S12) fun v15 S15 =>
        if v15 = 0 then
          bd (rdR S15 a9 3 7) fun v17 =>
          nw S15 (cO 4 [.null, .int 0, .int 0, .int 0, .int 0, .null]) 6 fun S18 =>
          gb (fX16_init S15.2 (some l2) S18) fun _ S19 =>
          bd v17 fun a21 =>
          gb (nAL_add a21 (some S15.2) S19) fun v20 S20 =>
          fX1_publishes_b41 G n l0 l2 (l3 + (nI 1)) (l4 + (nI 1)) S20
        else
          nw S15 (cO 14 [.int 0, .null, .int 0, .int 0]) 4 fun S22 =>
          bd (rdI S22 l0 1 5) fun v23 =>
          bd (rdI S22 a9 3 2) fun v24 =>
          gb (fX14_init S15.2 v23 v24 S22) fun _ S25 =>
          bd (chk S25 l0 1) fun _ =>
          gb (fX1_buries l0 v6 (some l2) (some S15.2) S25) fun _ S26 =>
          fX1_publishes_b41 G n l0 l2 (l3 + (nI 1)) (l4 + (nI 1)) S26
theorem wX1_publishes_b41 (hk : rOK Rp) (hJ : JDK l G Rp) (hc : gC p s m args meth c G RX1 "publishes" cX1_publishes 6 (some .int)) : ∀ (n : Nat) (l0 : Nat) (l2 : Nat) (l3 : Int32) (l4 : Int32) (S : gS) (H : Heap) (locs : List Loc) (ls : Array Slot) (kc ks C N : Nat), kc + C ≤ mc → ks + N ≤ ms → hp G Rp S H → va_S G.2.2.2 s.heap H locs → lv_has ls 6 [(0, .ref l0), (2, .ref l2), (3, .int l3), (4, .int l4)] → fX1_publishes_b41 G n l0 l2 l3 l4 S = some (r, Sf, C, N) → W p l e (gR 19 628 mc ms) s m args below meth c H locs kc ks (gQ below G Rp (some (.int r)) Sf args s mc ms) (F0 m 41 ls []) := by
  obtain ⟨hx, hb, hr, hlk, hml, hown, hts, hE, hA, hnm⟩ := hc
  have hc : gC p s m args meth c G RX1 "publishes" cX1_publishes 6 (some .int) := ⟨hx, hb, hr, hlk, hml, hown, hts, hE, hA, hnm⟩
  intro n
  induction n with
  | zero => intro l0 l2 l3 l4 S H locs ls kc ks C N _ _ _ _ _ hf; exact absurd hf (fun h => by cases h)
  | succ n ih =>
    intro l0 l2 l3 l4 S H locs ls kc ks C N hkc hks hH hS hl hf
    rw [fX1_publishes_b41] at hf
    refine lv_iload (pc := 41) hx hb dX1_publishes_41 (lv_at hl 3 rfl) ?_
    refine lv_aload_n (pc := 43) hx hb dX1_publishes_43 rfl (lv_at hl 0 rfl) ?_
    obtain ⟨v1, e1, hf⟩ := bdo hf
    refine g_get (pc := 44) (o := (some l0)) (a := l0) (ci := 1) (k := 0) (v := va_rf v1) (C := RX1) (T := TX1) (N := 7) hx hb hts hown hE hk hH in_X1 rfl (by decide) (hts _ q231) (fun _ h9 => h9) rfl (rdR_o e1) dX1_publishes_44 ?_
    obtain ⟨a3, ea3, hf⟩ := bdo hf
    obtain ⟨v2, S2, c2, n2, c2_2, n2_2, e2, hf, hC2, hN2⟩ := gbo hf
    refine g_callV (pc := 47) (o := v1) (b := a3) (As := []) (rest := [.int l4]) (st1 := [.int v2, .int l4]) hc (j_nAL_size hJ a3  S v2 S2 c2 n2 e2) (cwV 0 hts (lw_V q1539 q1120 q1121 q101 q1122) rfl rfl rfl hdJ2_size ⟨Nat.le_of_ble_eq_true rfl, Nat.le_of_ble_eq_true rfl⟩) (j_recv hJ _ _ _ _ 0 _ _ hE hH hS (adtR (t := 0) (show bd _ _ = some _ from e2)).choose_spec) ea3 rfl hl.1 rfl rfl (lv_room (Nat.le_of_ble_eq_true rfl)) dX1_publishes_47 hH hS (by omega) (by omega) (fun H locs hH hS => ?_)
    have hkc : kc + c2 + c2_2 ≤ mc := by omega
    have hks : ks + n2 + n2_2 ≤ ms := by omega
    refine lv_icmp_ge (pc := 50) (tgt := 145) hx hb dX1_publishes_50 (by decide) (fun c4 => ?_) (fun c4 => ?_)
    · rw [if_pos c4] at hf
      refine lv_iload_n (pc := 145) hx hb dX1_publishes_145 rfl (lv_at hl 2 rfl) ?_
      exact g_iret (pc := 146) hx hb hr hlk hH hS hkc hks hf dX1_publishes_146
    · rw [if_neg c4] at hf
      refine lv_aload_n (pc := 53) hx hb dX1_publishes_53 rfl (lv_at hl 0 rfl) ?_
      obtain ⟨v5, e5, hf⟩ := bdo hf
      refine g_get (pc := 54) (o := (some l0)) (a := l0) (ci := 1) (k := 0) (v := va_rf v5) (C := RX1) (T := TX1) (N := 7) hx hb hts hown hE hk hH in_X1 rfl (by decide) (hts _ q231) (fun _ h9 => h9) rfl (rdR_o e5) dX1_publishes_54 ?_
      refine lv_iload (pc := 57) hx hb dX1_publishes_57 (lv_at hl 3 rfl) ?_
      obtain ⟨a7, ea7, hf⟩ := bdo hf
      obtain ⟨v6, S6, c6, n6, c2_6, n2_6, e6, hf, hC6, hN6⟩ := gbo hf
      refine g_callV (pc := 59) (o := v5) (b := a7) (As := [.int l4]) (rest := []) (st1 := [va_rf v6]) hc (j_nAL_get hJ a7 l4 S2 v6 S6 c6 n6 e6) (cwV 1 hts (lw_V q1290 q1223 q1224 q101 q1225) rfl rfl rfl hdJ2_get ⟨Nat.le_of_ble_eq_true rfl, Nat.le_of_ble_eq_true rfl⟩) (j_recv hJ _ _ _ _ 0 _ _ hE hH hS (adtR (t := 0) (show bd _ _ = some _ from e6)).choose_spec) ea7 rfl hl.1 rfl rfl (lv_room (Nat.le_of_ble_eq_true rfl)) dX1_publishes_59 hH hS (by omega) (by omega) (fun H locs hH hS => ?_)
      have hkc : kc + c2 + c6 + c2_6 ≤ mc := by omega
      have hks : ks + n2 + n6 + n2_6 ≤ ms := by omega
      obtain ⟨_, e8, hf⟩ := bdo hf
      refine g_cast (pc := 62) (o := v6) (ci := 3) (C := RX8) (T := TX8) (N := 13) hx hb hts hown hE hk hH rfl q1291 e8 dX1_publishes_62 ?_
      refine g_astore (pc := 65) (i := 5) (o := v6) (lv' := [(5, va_rf v6), (0, .ref l0), (2, .ref l2), (3, .int l3), (4, .int l4)]) hx hb dX1_publishes_65 hl (by decide) rfl (fun ls hl => ?_)
      refine g_aload (pc := 67) (o := v6) hx hb dX1_publishes_67 (lv_at hl 0 rfl) ?_
      obtain ⟨a9, ea9, hf⟩ := bdo hf
      obtain ⟨v10, e10, hf⟩ := bdo hf
      refine g_get (pc := 69) (o := v6) (a := a9) (ci := 3) (k := 1) (v := va_rf v10) (C := RX8) (T := TX8) (N := 13) hx hb hts hown hE hk hH in_X8 rfl (by decide) (hts _ q1154) (fun _ h9 => h9) ea9 (rdR_o e10) dX1_publishes_69 ?_
      refine lv_aload_n (pc := 72) hx hb dX1_publishes_72 rfl (lv_at hl 1 rfl) ?_
      obtain ⟨v11, e11, hf⟩ := bdo hf
      refine g_get (pc := 73) (o := (some l0)) (a := l0) (ci := 1) (k := 4) (v := va_rf v11) (C := RX1) (T := TX1) (N := 7) hx hb hts hown hE hk hH in_X1 rfl (by decide) (hts _ q239) (fun _ h9 => h9) rfl (rdR_o e11) dX1_publishes_73 ?_
      obtain ⟨a13, ea13, hf⟩ := bdo hf
      obtain ⟨_, ek12, hf⟩ := bdo hf
      obtain ⟨v12, S12, c12, n12, c2_12, n2_12, e12, hf, hC12, hN12⟩ := gbo hf
      refine g_callV (pc := 76) (o := v10) (b := a13) (As := [va_rf v11]) (rest := []) (st1 := [.int v12]) hc (mX6_covers hk hJ (l0 := a13) (l1 := v11) e12) (cwV 1 hts (lw_V q1578 q1579 q1580 q129 q1581) rfl rfl rfl hdX6_covers ⟨Nat.le_of_ble_eq_true rfl, Nat.le_of_ble_eq_true rfl⟩) (g_recv hE hk hH (ci := 8) (q := (RX6, TX6, 3)) rfl (chk_o ek12).choose_spec) ea13 rfl hl.1 rfl rfl (lv_room (Nat.le_of_ble_eq_true rfl)) dX1_publishes_76 hH hS (by omega) (by omega) (fun H locs hH hS => ?_)
      have hkc : kc + c2 + c6 + c12 + c2_12 ≤ mc := by omega
      have hks : ks + n2 + n6 + n12 + n2_12 ≤ ms := by omega
      refine lv_if_ne (pc := 79) (tgt := 85) hx hb dX1_publishes_79 (by decide) (fun c14 => ?_) (fun c14 => ?_)
      · rw [if_neg c14] at hf
        refine lv_iinc (pc := 85) (v := l3 + (nI 1)) (lv' := [(3, .int (l3 + (nI 1))), (5, va_rf v6), (0, .ref l0), (2, .ref l2), (4, .int l4)]) hx hb dX1_publishes_85 hl (k := 3) rfl rfl (by decide) rfl (fun ls hl => ?_)
        refine g_aload (pc := 88) (o := v6) hx hb dX1_publishes_88 (lv_at hl 1 rfl) ?_
        obtain ⟨_, ek15, hf⟩ := bdo hf
        obtain ⟨v15, S15, c15, n15, c2_15, n2_15, e15, hf, hC15, hN15⟩ := gbo hf
        refine g_callV (pc := 90) (o := v6) (b := a9) (As := []) (rest := []) (st1 := [.int v15]) hc (mX8_isFull hk hJ (l0 := a9) e15) (cwV 0 hts (lw_V q1601 q1602 q1603 q131 q1604) rfl rfl rfl hdX8_isFull ⟨Nat.le_of_ble_eq_true rfl, Nat.le_of_ble_eq_true rfl⟩) (g_recv hE hk hH (ci := 3) (q := (RX8, TX8, 13)) rfl (chk_o ek15).choose_spec) ea9 rfl hl.1 rfl rfl (lv_room (Nat.le_of_ble_eq_true rfl)) dX1_publishes_90 hH hS (by omega) (by omega) (fun H locs hH hS => ?_)
        have hkc : kc + c2 + c6 + c12 + c15 + c2_15 ≤ mc := by omega
        have hks : ks + n2 + n6 + n12 + n15 + n2_15 ≤ ms := by omega
        refine lv_if_eq (pc := 93) (tgt := 122) hx hb dX1_publishes_93 (by decide) (fun c16 => ?_) (fun c16 => ?_)
        · rw [if_pos c16] at hf
          refine g_aload (pc := 122) (o := v6) hx hb dX1_publishes_122 (lv_at hl 1 rfl) ?_
          obtain ⟨v17, e17, hf⟩ := bdo hf
          refine g_get (pc := 124) (o := v6) (a := a9) (ci := 3) (k := 7) (v := va_rf v17) (C := RX8) (T := TX8) (N := 13) hx hb hts hown hE hk hH in_X8 rfl (by decide) (hts _ q1168) (fun _ h9 => h9) ea9 (rdR_o e17) dX1_publishes_124 ?_
          obtain ⟨S18, c2_18, n2_18, eS18, hf, hC18, hN18⟩ := nwo hf
          refine g_newo (pc := 127) (ci := 4) (C := RX16) (T := TX16) (N := 6) (fs := [.null, .int 0, .int 0, .int 0, .int 0, .null]) hx hb hts hown hE hA hk hH hS in_X16 tyX16_ok q1512 q1702 q144 rfl (fun j hj => by rcases (show j = 0 ∨ j = 1 ∨ j = 2 ∨ j = 3 ∨ j = 4 ∨ j = 5 by omega) with rfl | rfl | rfl | rfl | rfl | rfl <;> rfl) eS18 (Nat.le_trans (by omega) hkc) (Nat.le_trans (by omega) hks) dX1_publishes_127 (fun H hH hS => ?_)
          have hkc : kc + c2 + c6 + c12 + c15 + 1 + c2_18 ≤ mc := by omega
          have hks : ks + n2 + n6 + n12 + n15 + 6 + n2_18 ≤ ms := by omega
          refine lv_dup (pc := 130) hx hb dX1_publishes_130 rfl ?_
          refine lv_aload_n (pc := 131) hx hb dX1_publishes_131 rfl (lv_at hl 3 rfl) ?_
          obtain ⟨_, S19, c19, n19, c2_19, n2_19, e19, hf, hC19, hN19⟩ := gbo hf
          refine g_callI (pc := 132) (o := (some S15.2)) (b := S15.2) (As := [.ref l2]) (rest := [.ref S15.2, va_rf v17]) hc (mX16_init hk hJ (l0 := S15.2) (l1 := (some l2)) e19) (cwI 1 hts (lw_meth q1705) rfl rfl rfl (hts _ q144) (hts _ q1703) (hts _ q1704) rfl hdiX16_init ⟨Nat.le_of_ble_eq_true rfl, Nat.le_of_ble_eq_true rfl⟩) rfl rfl hl.1 rfl (lv_room (by simp [va_rf_cat, cat_i, cat_j, cat_r])) dX1_publishes_132 hH hS (by omega) (by omega) (fun H locs hH hS => ?_)
          have hkc : kc + c2 + c6 + c12 + c15 + 1 + c19 + c2_19 ≤ mc := by omega
          have hks : ks + n2 + n6 + n12 + n15 + 6 + n19 + n2_19 ≤ ms := by omega
          obtain ⟨a21, ea21, hf⟩ := bdo hf
          obtain ⟨v20, S20, c20, n20, c2_20, n2_20, e20, hf, hC20, hN20⟩ := gbo hf
          refine g_callV (pc := 135) (o := v17) (b := a21) (As := [.ref S15.2]) (rest := []) (st1 := [.int v20]) hc (j_nAL_add hJ a21 (some S15.2) S19 v20 S20 c20 n20 e20) (cwV 1 hts (lw_V q1577 q1040 q1041 q101 q1042) rfl rfl rfl hdJ2_add ⟨Nat.le_of_ble_eq_true rfl, Nat.le_of_ble_eq_true rfl⟩) (j_recv hJ _ _ _ _ 0 _ _ hE hH hS (adtR (t := 0) (show bd _ _ = some _ from e20)).choose_spec) ea21 rfl hl.1 rfl rfl (lv_room (Nat.le_of_ble_eq_true rfl)) dX1_publishes_135 hH hS (by omega) (by omega) (fun H locs hH hS => ?_)
          have hkc : kc + c2 + c6 + c12 + c15 + 1 + c19 + c20 + c2_20 ≤ mc := by omega
          have hks : ks + n2 + n6 + n12 + n15 + 6 + n19 + n20 + n2_20 ≤ ms := by omega
          refine lv_pop (pc := 138) hx hb dX1_publishes_138 rfl ?_
          refine lv_iinc (pc := 139) (v := l4 + (nI 1)) (lv' := [(4, .int (l4 + (nI 1))), (3, .int (l3 + (nI 1))), (5, va_rf v6), (0, .ref l0), (2, .ref l2)]) hx hb dX1_publishes_139 hl (k := 4) rfl rfl (by decide) rfl (fun ls hl => ?_)
          refine lv_goto (pc := 142) (tgt := 41) hx hb dX1_publishes_142 (by decide) ?_
          exact ih l0 l2 (l3 + (nI 1)) (l4 + (nI 1)) S20 _ _ ls _ _ _ _ hkc hks hH hS (lv_sub hl [3, 4, 1, 0] rfl) hf
        · rw [if_neg c16] at hf
          refine lv_aload_n (pc := 96) hx hb dX1_publishes_96 rfl (lv_at hl 2 rfl) ?_
          refine g_aload (pc := 97) (o := v6) hx hb dX1_publishes_97 (lv_at hl 1 rfl) ?_
          refine lv_aload_n (pc := 99) hx hb dX1_publishes_99 rfl (lv_at hl 3 rfl) ?_
          obtain ⟨S22, c2_22, n2_22, eS22, hf, hC22, hN22⟩ := nwo hf
          refine g_newo (pc := 100) (ci := 14) (C := RX14) (T := TX14) (N := 4) (fs := [.int 0, .null, .int 0, .int 0]) hx hb hts hown hE hA hk hH hS in_X14 tyX14_ok q1606 q1607 q141 rfl (fun j hj => by rcases (show j = 0 ∨ j = 1 ∨ j = 2 ∨ j = 3 by omega) with rfl | rfl | rfl | rfl <;> rfl) eS22 (Nat.le_trans (by omega) hkc) (Nat.le_trans (by omega) hks) dX1_publishes_100 (fun H hH hS => ?_)
          have hkc : kc + c2 + c6 + c12 + c15 + 1 + c2_22 ≤ mc := by omega
          have hks : ks + n2 + n6 + n12 + n15 + 4 + n2_22 ≤ ms := by omega
          refine lv_dup (pc := 103) hx hb dX1_publishes_103 rfl ?_
          refine lv_aload_n (pc := 104) hx hb dX1_publishes_104 rfl (lv_at hl 2 rfl) ?_
          obtain ⟨v23, e23, hf⟩ := bdo hf
          refine g_get (pc := 105) (o := (some l0)) (a := l0) (ci := 1) (k := 5) (v := .int v23) (C := RX1) (T := TX1) (N := 7) hx hb hts hown hE hk hH in_X1 rfl (by decide) (hts _ q241) (fun _ h9 => h9) rfl (rdI_o e23) dX1_publishes_105 ?_
          refine g_aload (pc := 108) (o := v6) hx hb dX1_publishes_108 (lv_at hl 1 rfl) ?_
          obtain ⟨v24, e24, hf⟩ := bdo hf
          refine g_get (pc := 110) (o := v6) (a := a9) (ci := 3) (k := 2) (v := .int v24) (C := RX8) (T := TX8) (N := 13) hx hb hts hown hE hk hH in_X8 rfl (by decide) (hts _ q1157) (fun _ h9 => h9) ea9 (rdI_o e24) dX1_publishes_110 ?_
          obtain ⟨_, S25, c25, n25, c2_25, n2_25, e25, hf, hC25, hN25⟩ := gbo hf
          refine g_callI (pc := 113) (o := (some S15.2)) (b := S15.2) (As := [.int v23, .int v24]) (rest := [.ref S15.2, .ref l2, va_rf v6, .ref l0]) hc (mX14_init hk hJ (l0 := S15.2) (l1 := v23) (l2 := v24) e25) (cwI 2 hts (lw_meth q1610) rfl rfl rfl (hts _ q141) (hts _ q1608) (hts _ q1609) rfl hdiX14_init ⟨Nat.le_of_ble_eq_true rfl, Nat.le_of_ble_eq_true rfl⟩) rfl rfl hl.1 rfl (lv_room (by simp [va_rf_cat, cat_i, cat_j, cat_r])) dX1_publishes_113 hH hS (by omega) (by omega) (fun H locs hH hS => ?_)
          have hkc : kc + c2 + c6 + c12 + c15 + 1 + c25 + c2_25 ≤ mc := by omega
          have hks : ks + n2 + n6 + n12 + n15 + 4 + n25 + n2_25 ≤ ms := by omega
          obtain ⟨_, ek26, hf⟩ := bdo hf
          obtain ⟨_, S26, c26, n26, c2_26, n2_26, e26, hf, hC26, hN26⟩ := gbo hf
          refine g_callV (pc := 116) (o := (some l0)) (b := l0) (As := [va_rf v6, .ref l2, .ref S15.2]) (rest := []) (st1 := []) hc (mX1_buries hk hJ (l0 := l0) (l1 := v6) (l2 := (some l2)) (l3 := (some S15.2)) e26) (cwV 3 hts (lw_V q1637 q1639 qs25 q98 q1640) rfl rfl rfl hdX1_buries ⟨Nat.le_of_ble_eq_true rfl, Nat.le_of_ble_eq_true rfl⟩) (g_recv hE hk hH (ci := 1) (q := (RX1, TX1, 7)) rfl (chk_o ek26).choose_spec) rfl rfl hl.1 rfl rfl (lv_room (Nat.le_of_ble_eq_true rfl)) dX1_publishes_116 hH hS (by omega) (by omega) (fun H locs hH hS => ?_)
          have hkc : kc + c2 + c6 + c12 + c15 + 1 + c25 + c26 + c2_26 ≤ mc := by omega
          have hks : ks + n2 + n6 + n12 + n15 + 4 + n25 + n26 + n2_26 ≤ ms := by omega
          refine lv_goto (pc := 119) (tgt := 139) hx hb dX1_publishes_119 (by decide) ?_
          refine lv_iinc (pc := 139) (v := l4 + (nI 1)) (lv' := [(4, .int (l4 + (nI 1))), (3, .int (l3 + (nI 1))), (5, va_rf v6), (0, .ref l0), (2, .ref l2)]) hx hb dX1_publishes_139 hl (k := 4) rfl rfl (by decide) rfl (fun ls hl => ?_)
          refine lv_goto (pc := 142) (tgt := 41) hx hb dX1_publishes_142 (by decide) ?_
          exact ih l0 l2 (l3 + (nI 1)) (l4 + (nI 1)) S26 _ _ ls _ _ _ _ hkc hks hH hS (lv_sub hl [3, 4, 1, 0] rfl) hf
      · rw [if_pos c14] at hf
        refine lv_goto (pc := 82) (tgt := 139) hx hb dX1_publishes_82 (by decide) ?_
        refine lv_iinc (pc := 139) (v := l4 + (nI 1)) (lv' := [(4, .int (l4 + (nI 1))), (5, va_rf v6), (0, .ref l0), (2, .ref l2), (3, .int l3)]) hx hb dX1_publishes_139 hl (k := 4) rfl rfl (by decide) rfl (fun ls hl => ?_)
        refine lv_goto (pc := 142) (tgt := 41) hx hb dX1_publishes_142 (by decide) ?_
        exact ih l0 l2 l3 (l4 + (nI 1)) S12 _ _ ls _ _ _ _ hkc hks hH hS (lv_sub hl [2, 3, 4, 0] rfl) hf
def fX1_publishes (G : gG) (l0 : Nat) (l1 : Option Nat) (S : gS) : gO Int32 :=
  nw S (cO 5 [.int 0, .int 0, .int 0, .int 0, .int 0, .int 0]) 6 fun S1 =>
  bd (rdR S1 l0 1 2) fun v2 =>
  bd v2 fun a4 =>
  gb (nAL_size a4  S1) fun v3 S3 =>
  bd (rdI S3 l0 1 5) fun v5 =>
  bd (rdR S3 l0 1 4) fun v6 =>
  bd v6 fun a8 =>
  bd (chk S3 a8 8) fun _ =>
  gb (fX6_many a8 S3) fun v7 S7 =>
  gb (fX11_init S.2 v3 v5 v7 l1 S7) fun _ S9 =>
  bd (rdR S9 l0 1 2) fun v10 =>
  bd v10 fun a12 =>
  gb (nAL_add a12 (some S.2) S9) fun v11 S11 =>
  fX1_publishes_b41 G FU l0 S.2 (nI 0) (nI 0) S11
theorem wX1_publishes_b0 (hk : rOK Rp) (hJ : JDK l G Rp) (hc : gC p s m args meth c G RX1 "publishes" cX1_publishes 6 (some .int)) (l0 : Nat) (l1 : Option Nat) (S : gS) (H : Heap) (locs : List Loc) (ls : Array Slot) (kc ks C N : Nat) (hkc : kc + C ≤ mc) (hks : ks + N ≤ ms) (hH : hp G Rp S H) (hS : va_S G.2.2.2 s.heap H locs) (hl : lv_has ls 6 [(0, .ref l0), (1, va_rf l1)]) (hf : fX1_publishes G l0 l1 S = some (r, Sf, C, N)) : W p l e (gR 19 628 mc ms) s m args below meth c H locs kc ks (gQ below G Rp (some (.int r)) Sf args s mc ms) (F0 m 0 ls []) := by
  obtain ⟨hx, hb, hr, hlk, hml, hown, hts, hE, hA, hnm⟩ := hc
  have hc : gC p s m args meth c G RX1 "publishes" cX1_publishes 6 (some .int) := ⟨hx, hb, hr, hlk, hml, hown, hts, hE, hA, hnm⟩
  unfold fX1_publishes at hf
  obtain ⟨S1, c2_1, n2_1, eS1, hf, hC1, hN1⟩ := nwo hf
  refine g_newo (pc := 0) (ci := 5) (C := RX11) (T := TX11) (N := 6) (fs := [.int 0, .int 0, .int 0, .int 0, .int 0, .int 0]) hx hb hts hown hE hA hk hH hS in_X11 tyX11_ok q1537 q1538 q138 rfl (fun j hj => by rcases (show j = 0 ∨ j = 1 ∨ j = 2 ∨ j = 3 ∨ j = 4 ∨ j = 5 by omega) with rfl | rfl | rfl | rfl | rfl | rfl <;> rfl) eS1 (Nat.le_trans (by omega) hkc) (Nat.le_trans (by omega) hks) dX1_publishes_0 (fun H hH hS => ?_)
  have hkc : kc + 1 + c2_1 ≤ mc := by omega
  have hks : ks + 6 + n2_1 ≤ ms := by omega
  refine lv_dup (pc := 3) hx hb dX1_publishes_3 rfl ?_
  refine lv_aload_n (pc := 4) hx hb dX1_publishes_4 rfl (lv_at hl 0 rfl) ?_
  obtain ⟨v2, e2, hf⟩ := bdo hf
  refine g_get (pc := 5) (o := (some l0)) (a := l0) (ci := 1) (k := 2) (v := va_rf v2) (C := RX1) (T := TX1) (N := 7) hx hb hts hown hE hk hH in_X1 rfl (by decide) (hts _ q235) (fun _ h9 => h9) rfl (rdR_o e2) dX1_publishes_5 ?_
  obtain ⟨a4, ea4, hf⟩ := bdo hf
  obtain ⟨v3, S3, c3, n3, c2_3, n2_3, e3, hf, hC3, hN3⟩ := gbo hf
  refine g_callV (pc := 8) (o := v2) (b := a4) (As := []) (rest := [.ref S.2, .ref S.2]) (st1 := [.int v3, .ref S.2, .ref S.2]) hc (j_nAL_size hJ a4  S1 v3 S3 c3 n3 e3) (cwV 0 hts (lw_V q1539 q1120 q1121 q101 q1122) rfl rfl rfl hdJ2_size ⟨Nat.le_of_ble_eq_true rfl, Nat.le_of_ble_eq_true rfl⟩) (j_recv hJ _ _ _ _ 0 _ _ hE hH hS (adtR (t := 0) (show bd _ _ = some _ from e3)).choose_spec) ea4 rfl hl.1 rfl rfl (lv_room (Nat.le_of_ble_eq_true rfl)) dX1_publishes_8 hH hS (by omega) (by omega) (fun H locs hH hS => ?_)
  have hkc : kc + 1 + c3 + c2_3 ≤ mc := by omega
  have hks : ks + 6 + n3 + n2_3 ≤ ms := by omega
  refine lv_aload_n (pc := 11) hx hb dX1_publishes_11 rfl (lv_at hl 0 rfl) ?_
  obtain ⟨v5, e5, hf⟩ := bdo hf
  refine g_get (pc := 12) (o := (some l0)) (a := l0) (ci := 1) (k := 5) (v := .int v5) (C := RX1) (T := TX1) (N := 7) hx hb hts hown hE hk hH in_X1 rfl (by decide) (hts _ q241) (fun _ h9 => h9) rfl (rdI_o e5) dX1_publishes_12 ?_
  refine lv_aload_n (pc := 15) hx hb dX1_publishes_15 rfl (lv_at hl 0 rfl) ?_
  obtain ⟨v6, e6, hf⟩ := bdo hf
  refine g_get (pc := 16) (o := (some l0)) (a := l0) (ci := 1) (k := 4) (v := va_rf v6) (C := RX1) (T := TX1) (N := 7) hx hb hts hown hE hk hH in_X1 rfl (by decide) (hts _ q239) (fun _ h9 => h9) rfl (rdR_o e6) dX1_publishes_16 ?_
  obtain ⟨a8, ea8, hf⟩ := bdo hf
  obtain ⟨_, ek7, hf⟩ := bdo hf
  obtain ⟨v7, S7, c7, n7, c2_7, n2_7, e7, hf, hC7, hN7⟩ := gbo hf
  refine g_callV (pc := 19) (o := v6) (b := a8) (As := []) (rest := [.int v5, .int v3, .ref S.2, .ref S.2]) (st1 := [.int v7, .int v5, .int v3, .ref S.2, .ref S.2]) hc (mX6_many hk hJ (l0 := a8) e7) (cwV 0 hts (lw_V q1540 q1116 q1117 q129 q1118) rfl rfl rfl hdX6_many ⟨Nat.le_of_ble_eq_true rfl, Nat.le_of_ble_eq_true rfl⟩) (g_recv hE hk hH (ci := 8) (q := (RX6, TX6, 3)) rfl (chk_o ek7).choose_spec) ea8 rfl hl.1 rfl rfl (lv_room (Nat.le_of_ble_eq_true rfl)) dX1_publishes_19 hH hS (by omega) (by omega) (fun H locs hH hS => ?_)
  have hkc : kc + 1 + c3 + c7 + c2_7 ≤ mc := by omega
  have hks : ks + 6 + n3 + n7 + n2_7 ≤ ms := by omega
  refine g_aload_n (pc := 22) (o := l1) hx hb dX1_publishes_22 rfl (lv_at hl 1 rfl) ?_
  obtain ⟨_, S9, c9, n9, c2_9, n2_9, e9, hf, hC9, hN9⟩ := gbo hf
  refine g_callI (pc := 23) (o := (some S.2)) (b := S.2) (As := [.int v3, .int v5, .int v7, va_rf l1]) (rest := [.ref S.2]) hc (mX11_init hk hJ (l0 := S.2) (l1 := v3) (l2 := v5) (l3 := v7) (l4 := l1) e9) (cwI 4 hts (lw_meth q1543) rfl rfl rfl (hts _ q138) (hts _ q1541) (hts _ q1542) rfl hdiX11_init ⟨Nat.le_of_ble_eq_true rfl, Nat.le_of_ble_eq_true rfl⟩) rfl rfl hl.1 rfl (lv_room (Nat.le_of_ble_eq_true rfl)) dX1_publishes_23 hH hS (by omega) (by omega) (fun H locs hH hS => ?_)
  have hkc : kc + 1 + c3 + c7 + c9 + c2_9 ≤ mc := by omega
  have hks : ks + 6 + n3 + n7 + n9 + n2_9 ≤ ms := by omega
  refine lv_astore_n (pc := 26) (i := 2) (lv' := [(2, .ref S.2), (0, .ref l0), (1, va_rf l1)]) hx hb dX1_publishes_26 rfl hl (by decide) (by simp [va_rf_cat, cat_i, cat_j, cat_r] <;> rfl) (fun ls hl => ?_)
  refine lv_aload_n (pc := 27) hx hb dX1_publishes_27 rfl (lv_at hl 1 rfl) ?_
  obtain ⟨v10, e10, hf⟩ := bdo hf
  refine g_get (pc := 28) (o := (some l0)) (a := l0) (ci := 1) (k := 2) (v := va_rf v10) (C := RX1) (T := TX1) (N := 7) hx hb hts hown hE hk hH in_X1 rfl (by decide) (hts _ q235) (fun _ h9 => h9) rfl (rdR_o e10) dX1_publishes_28 ?_
  refine lv_aload_n (pc := 31) hx hb dX1_publishes_31 rfl (lv_at hl 0 rfl) ?_
  obtain ⟨a12, ea12, hf⟩ := bdo hf
  obtain ⟨v11, S11, c11, n11, c2_11, n2_11, e11, hf, hC11, hN11⟩ := gbo hf
  refine g_callV (pc := 32) (o := v10) (b := a12) (As := [.ref S.2]) (rest := []) (st1 := [.int v11]) hc (j_nAL_add hJ a12 (some S.2) S9 v11 S11 c11 n11 e11) (cwV 1 hts (lw_V q1577 q1040 q1041 q101 q1042) rfl rfl rfl hdJ2_add ⟨Nat.le_of_ble_eq_true rfl, Nat.le_of_ble_eq_true rfl⟩) (j_recv hJ _ _ _ _ 0 _ _ hE hH hS (adtR (t := 0) (show bd _ _ = some _ from e11)).choose_spec) ea12 rfl hl.1 rfl rfl (lv_room (Nat.le_of_ble_eq_true rfl)) dX1_publishes_32 hH hS (by omega) (by omega) (fun H locs hH hS => ?_)
  have hkc : kc + 1 + c3 + c7 + c9 + c11 + c2_11 ≤ mc := by omega
  have hks : ks + 6 + n3 + n7 + n9 + n11 + n2_11 ≤ ms := by omega
  refine lv_pop (pc := 35) hx hb dX1_publishes_35 rfl ?_
  refine lv_iconst (pc := 36) (v := nI 0) hx hb dX1_publishes_36 rfl ?_
  refine lv_istore_n (pc := 37) (i := 3) (lv' := [(3, .int (nI 0)), (2, .ref S.2), (0, .ref l0), (1, va_rf l1)]) hx hb dX1_publishes_37 rfl hl (by decide) rfl (fun ls hl => ?_)
  refine lv_iconst (pc := 38) (v := nI 0) hx hb dX1_publishes_38 rfl ?_
  refine lv_istore (pc := 39) (i := 4) (lv' := [(4, .int (nI 0)), (3, .int (nI 0)), (2, .ref S.2), (0, .ref l0), (1, va_rf l1)]) hx hb dX1_publishes_39 hl (by decide) rfl (fun ls hl => ?_)
  exact wX1_publishes_b41 hk hJ hc FU l0 S.2 (nI 0) (nI 0) S11 _ _ ls _ _ _ _ hkc hks hH hS (lv_sub hl [3, 2, 1, 0] rfl) hf
theorem mX1_publishes {l : Launch} {G : gG} {Rp : gM → gM → Nat → Prop} (hk : rOK Rp) (hJ : JDK l G Rp) {S S2 : gS} {r2 : Int32} {C N : Nat} {l0 : Nat} {l1 : Option Nat} (hf : fX1_publishes G l0 l1 S = some (r2, S2, C, N)) : gMet l yX1_publishes cX1_publishes 6 (some .int) 19 628 G Rp [.ref l0, va_rf l1] S (some (.int r2)) S2 C N := by
  refine g_start (by decide) (by simp [lg_sl, va_rf_cat, cat_i, cat_j, cat_r]) (fun p e s m args below meth c ls hc hl hH => ?_)
  have hl : lv_has ls 6 [(0, .ref l0), (1, va_rf l1)] := by simpa [lv_args, va_rf_cat, cat_i, cat_j, cat_r] using hl
  exact wX1_publishes_b0 hk hJ hc l0 l1 S _ _ ls 0 0 C N (by omega) (by omega) hH va_S.rf (lv_sub hl [0, 1] rfl) hf
end
section
variable {r : Int32} {Sf : gS}
def fX9_compare (l1 : Option Nat) (l2 : Option Nat) (S : gS) : gO Int32 :=
  bd l1 fun a1 =>
  bd (rdR S a1 4 0) fun v2 =>
  bd l2 fun a3 =>
  bd (rdR S a3 4 0) fun v4 =>
  bd v2 fun a5 =>
  bd (rdI S a5 5 2) fun v6 =>
  bd v4 fun a7 =>
  bd (rdI S a7 5 2) fun v8 =>
  if v6 = v8 then
    bd (rdI S a5 5 0) fun v10 =>
    bd (rdI S a7 5 0) fun v11 =>
    some (v10 - v11, S, 0, 0)
  else
    bd (rdI S a7 5 2) fun v12 =>
    bd (rdI S a5 5 2) fun v13 =>
    some (v12 - v13, S, 0, 0)
theorem wX9_compare_b0 (hk : rOK Rp) (hJ : JDK l G Rp) (hc : gC p s m args meth c G RX9 "compare" cX9_compare 5 (some .int)) (l1 : Option Nat) (l2 : Option Nat) (S : gS) (H : Heap) (locs : List Loc) (ls : Array Slot) (kc ks C N : Nat) (hkc : kc + C ≤ mc) (hks : ks + N ≤ ms) (hH : hp G Rp S H) (hS : va_S G.2.2.2 s.heap H locs) (hl : lv_has ls 5 [(1, va_rf l1), (2, va_rf l2)]) (hf : fX9_compare l1 l2 S = some (r, Sf, C, N)) : W p l e (gR 1 40 mc ms) s m args below meth c H locs kc ks (gQ below G Rp (some (.int r)) Sf args s mc ms) (F0 m 0 ls []) := by
  obtain ⟨hx, hb, hr, hlk, hml, hown, hts, hE, hA, hnm⟩ := hc
  have hc : gC p s m args meth c G RX9 "compare" cX9_compare 5 (some .int) := ⟨hx, hb, hr, hlk, hml, hown, hts, hE, hA, hnm⟩
  unfold fX9_compare at hf
  refine g_aload_n (pc := 0) (o := l1) hx hb dX9_compare_0 rfl (lv_at hl 0 rfl) ?_
  obtain ⟨a1, ea1, hf⟩ := bdo hf
  obtain ⟨v2, e2, hf⟩ := bdo hf
  refine g_get (pc := 1) (o := l1) (a := a1) (ci := 4) (k := 0) (v := va_rf v2) (C := RX16) (T := TX16) (N := 6) hx hb hts hown hE hk hH in_X16 rfl (by decide) (hts _ q1709) (fun _ h9 => h9) ea1 (rdR_o e2) dX9_compare_1 ?_
  refine g_astore_n (pc := 4) (i := 3) (o := v2) (lv' := [(3, va_rf v2), (1, va_rf l1), (2, va_rf l2)]) hx hb dX9_compare_4 rfl hl (by decide) (by simp [va_rf_cat, cat_i, cat_j, cat_r] <;> rfl) (fun ls hl => ?_)
  refine g_aload_n (pc := 5) (o := l2) hx hb dX9_compare_5 rfl (lv_at hl 2 rfl) ?_
  obtain ⟨a3, ea3, hf⟩ := bdo hf
  obtain ⟨v4, e4, hf⟩ := bdo hf
  refine g_get (pc := 6) (o := l2) (a := a3) (ci := 4) (k := 0) (v := va_rf v4) (C := RX16) (T := TX16) (N := 6) hx hb hts hown hE hk hH in_X16 rfl (by decide) (hts _ q1709) (fun _ h9 => h9) ea3 (rdR_o e4) dX9_compare_6 ?_
  refine g_astore (pc := 9) (i := 4) (o := v4) (lv' := [(4, va_rf v4), (3, va_rf v2), (1, va_rf l1), (2, va_rf l2)]) hx hb dX9_compare_9 hl (by decide) (by simp [va_rf_cat, cat_i, cat_j, cat_r] <;> rfl) (fun ls hl => ?_)
  refine g_aload_n (pc := 11) (o := v2) hx hb dX9_compare_11 rfl (lv_at hl 1 rfl) ?_
  obtain ⟨a5, ea5, hf⟩ := bdo hf
  obtain ⟨v6, e6, hf⟩ := bdo hf
  refine g_get (pc := 12) (o := v2) (a := a5) (ci := 5) (k := 2) (v := .int v6) (C := RX11) (T := TX11) (N := 6) hx hb hts hown hE hk hH in_X11 rfl (by decide) (hts _ q1554) (fun _ h9 => h9) ea5 (rdI_o e6) dX9_compare_12 ?_
  refine g_aload (pc := 15) (o := v4) hx hb dX9_compare_15 (lv_at hl 0 rfl) ?_
  obtain ⟨a7, ea7, hf⟩ := bdo hf
  obtain ⟨v8, e8, hf⟩ := bdo hf
  refine g_get (pc := 17) (o := v4) (a := a7) (ci := 5) (k := 2) (v := .int v8) (C := RX11) (T := TX11) (N := 6) hx hb hts hown hE hk hH in_X11 rfl (by decide) (hts _ q1554) (fun _ h9 => h9) ea7 (rdI_o e8) dX9_compare_17 ?_
  refine lv_icmp_eq (pc := 20) (tgt := 36) hx hb dX9_compare_20 (by decide) (fun c9 => ?_) (fun c9 => ?_)
  · rw [if_pos c9] at hf
    refine g_aload_n (pc := 36) (o := v2) hx hb dX9_compare_36 rfl (lv_at hl 1 rfl) ?_
    obtain ⟨v10, e10, hf⟩ := bdo hf
    refine g_get (pc := 37) (o := v2) (a := a5) (ci := 5) (k := 0) (v := .int v10) (C := RX11) (T := TX11) (N := 6) hx hb hts hown hE hk hH in_X11 rfl (by decide) (hts _ q1546) (fun _ h9 => h9) ea5 (rdI_o e10) dX9_compare_37 ?_
    refine g_aload (pc := 40) (o := v4) hx hb dX9_compare_40 (lv_at hl 0 rfl) ?_
    obtain ⟨v11, e11, hf⟩ := bdo hf
    refine g_get (pc := 42) (o := v4) (a := a7) (ci := 5) (k := 0) (v := .int v11) (C := RX11) (T := TX11) (N := 6) hx hb hts hown hE hk hH in_X11 rfl (by decide) (hts _ q1546) (fun _ h9 => h9) ea7 (rdI_o e11) dX9_compare_42 ?_
    refine lv_isub (pc := 45) hx hb dX9_compare_45 ?_
    exact g_iret (pc := 46) hx hb hr hlk hH hS hkc hks hf dX9_compare_46
  · rw [if_neg c9] at hf
    refine g_aload (pc := 23) (o := v4) hx hb dX9_compare_23 (lv_at hl 0 rfl) ?_
    obtain ⟨v12, e12, hf⟩ := bdo hf
    refine g_get (pc := 25) (o := v4) (a := a7) (ci := 5) (k := 2) (v := .int v12) (C := RX11) (T := TX11) (N := 6) hx hb hts hown hE hk hH in_X11 rfl (by decide) (hts _ q1554) (fun _ h9 => h9) ea7 (rdI_o e12) dX9_compare_25 ?_
    refine g_aload_n (pc := 28) (o := v2) hx hb dX9_compare_28 rfl (lv_at hl 1 rfl) ?_
    obtain ⟨v13, e13, hf⟩ := bdo hf
    refine g_get (pc := 29) (o := v2) (a := a5) (ci := 5) (k := 2) (v := .int v13) (C := RX11) (T := TX11) (N := 6) hx hb hts hown hE hk hH in_X11 rfl (by decide) (hts _ q1554) (fun _ h9 => h9) ea5 (rdI_o e13) dX9_compare_29 ?_
    refine lv_isub (pc := 32) hx hb dX9_compare_32 ?_
    refine lv_goto (pc := 33) (tgt := 46) hx hb dX9_compare_33 (by decide) ?_
    exact g_iret (pc := 46) hx hb hr hlk hH hS hkc hks hf dX9_compare_46
theorem mX9_compare {l : Launch} {G : gG} {Rp : gM → gM → Nat → Prop} (hk : rOK Rp) (hJ : JDK l G Rp) {S S2 : gS} {r2 : Int32} {C N : Nat} {l0 : Nat} {l1 : Option Nat} {l2 : Option Nat} (hf : fX9_compare l1 l2 S = some (r2, S2, C, N)) : gMet l yX9_compare cX9_compare 5 (some .int) 1 40 G Rp [.ref l0, va_rf l1, va_rf l2] S (some (.int r2)) S2 C N := by
  refine g_start (by decide) (by simp [lg_sl, va_rf_cat, cat_i, cat_j, cat_r]) (fun p e s m args below meth c ls hc hl hH => ?_)
  have hl : lv_has ls 5 [(0, .ref l0), (1, va_rf l1), (2, va_rf l2)] := by simpa [lv_args, va_rf_cat, cat_i, cat_j, cat_r] using hl
  exact wX9_compare_b0 hk hJ hc l1 l2 S _ _ ls 0 0 C N (by omega) (by omega) hH va_S.rf (lv_sub hl [1, 2] rfl) hf
end
section
variable {r : Option Nat} {Sf : gS}
def fX8_next_b86 (k6 : Nat → (Option Nat) → Int32 → Int32 → gS → gO (Option Nat)) (l0 : Nat) (l2 : Int32) (l3 : Int32) (l4 : Option Nat) (l5 : Int32) (S : gS) : gO (Option Nat) :=
  k6 l0 l4 (l2 ||| l5) (l3 + (nI 1)) S
theorem wX8_next_b86 (hk : rOK Rp) (hJ : JDK l G Rp) (hc : gC p s m args meth c G RX8 "next" cX8_next 7 (some (.object "CreditBroker$Letter"))) (k6 : Nat → (Option Nat) → Int32 → Int32 → gS → gO (Option Nat)) (h6 : ∀ (l0 : Nat) (l1 : Option Nat) (l2 : Int32) (l3 : Int32) (S : gS) (H : Heap) (locs : List Loc) (ls : Array Slot) (kc ks C N : Nat), kc + C ≤ mc → ks + N ≤ ms → hp G Rp S H → va_S G.2.2.2 s.heap H locs → lv_has ls 7 [(0, .ref l0), (1, va_rf l1), (2, .int l2), (3, .int l3)] → k6 l0 l1 l2 l3 S = some (r, Sf, C, N) → W p l e (gR 15 540 mc ms) s m args below meth c H locs kc ks (gQ below G Rp (some (va_rf r)) Sf args s mc ms) (F0 m 6 ls [])) (l0 : Nat) (l2 : Int32) (l3 : Int32) (l4 : Option Nat) (l5 : Int32) (S : gS) (H : Heap) (locs : List Loc) (ls : Array Slot) (kc ks C N : Nat) (hkc : kc + C ≤ mc) (hks : ks + N ≤ ms) (hH : hp G Rp S H) (hS : va_S G.2.2.2 s.heap H locs) (hl : lv_has ls 7 [(0, .ref l0), (2, .int l2), (3, .int l3), (4, va_rf l4), (5, .int l5)]) (hf : fX8_next_b86 k6 l0 l2 l3 l4 l5 S = some (r, Sf, C, N)) : W p l e (gR 15 540 mc ms) s m args below meth c H locs kc ks (gQ below G Rp (some (va_rf r)) Sf args s mc ms) (F0 m 86 ls []) := by
  obtain ⟨hx, hb, hr, hlk, hml, hown, hts, hE, hA, hnm⟩ := hc
  have hc : gC p s m args meth c G RX8 "next" cX8_next 7 (some (.object "CreditBroker$Letter")) := ⟨hx, hb, hr, hlk, hml, hown, hts, hE, hA, hnm⟩
  unfold fX8_next_b86 at hf
  refine g_aload (pc := 86) (o := l4) hx hb dX8_next_86 (lv_at hl 3 rfl) ?_
  refine g_astore_n (pc := 88) (i := 1) (o := l4) (lv' := [(1, va_rf l4), (0, .ref l0), (2, .int l2), (3, .int l3), (4, va_rf l4), (5, .int l5)]) hx hb dX8_next_88 rfl hl (by decide) rfl (fun ls hl => ?_)
  refine lv_iload_n (pc := 89) hx hb dX8_next_89 rfl (lv_at hl 2 rfl) ?_
  refine lv_iload (pc := 90) hx hb dX8_next_90 (lv_at hl 5 rfl) ?_
  refine lv_ior (pc := 92) hx hb dX8_next_92 ?_
  refine lv_istore_n (pc := 93) (i := 2) (lv' := [(2, .int (l2 ||| l5)), (1, va_rf l4), (0, .ref l0), (3, .int l3), (4, va_rf l4), (5, .int l5)]) hx hb dX8_next_93 rfl hl (by decide) (by simp [va_rf_cat, cat_i, cat_j, cat_r] <;> rfl) (fun ls hl => ?_)
  refine lv_iinc (pc := 94) (v := l3 + (nI 1)) (lv' := [(3, .int (l3 + (nI 1))), (2, .int (l2 ||| l5)), (1, va_rf l4), (0, .ref l0), (4, va_rf l4), (5, .int l5)]) hx hb dX8_next_94 hl (k := 3) rfl rfl (by decide) rfl (fun ls hl => ?_)
  refine lv_goto (pc := 97) (tgt := 6) hx hb dX8_next_97 (by decide) ?_
  exact h6 l0 l4 (l2 ||| l5) (l3 + (nI 1)) S _ _ ls _ _ _ _ hkc hks hH hS (lv_sub hl [3, 2, 1, 0] rfl) hf
def fX8_next_b62 (k6 : Nat → (Option Nat) → Int32 → Int32 → gS → gO (Option Nat)) (l0 : Nat) (l1 : Option Nat) (l2 : Int32) (l3 : Int32) (l4 : Option Nat) (l5 : Int32) (t0 : Int32) (S : gS) : gO (Option Nat) :=
  if t0 = 0 then
    k6 l0 l1 (l2 ||| l5) (l3 + (nI 1)) S
  else
    if l1 = none then
      fX8_next_b86 k6 l0 l2 l3 l4 l5 S
    else
      bd (rdR S l0 3 8) fun v3 =>
      bd v3 fun a5 =>
      bd (chk S a5 10) fun _ =>
      gb (fX9_compare l4 l1 S) fun v4 S4 =>
      if 0 ≤ v4 then
        k6 l0 l1 (l2 ||| l5) (l3 + (nI 1)) S4
      else
        fX8_next_b86 k6 l0 l2 l3 l4 l5 S4
theorem wX8_next_b62 (hk : rOK Rp) (hJ : JDK l G Rp) (hc : gC p s m args meth c G RX8 "next" cX8_next 7 (some (.object "CreditBroker$Letter"))) (k6 : Nat → (Option Nat) → Int32 → Int32 → gS → gO (Option Nat)) (h6 : ∀ (l0 : Nat) (l1 : Option Nat) (l2 : Int32) (l3 : Int32) (S : gS) (H : Heap) (locs : List Loc) (ls : Array Slot) (kc ks C N : Nat), kc + C ≤ mc → ks + N ≤ ms → hp G Rp S H → va_S G.2.2.2 s.heap H locs → lv_has ls 7 [(0, .ref l0), (1, va_rf l1), (2, .int l2), (3, .int l3)] → k6 l0 l1 l2 l3 S = some (r, Sf, C, N) → W p l e (gR 15 540 mc ms) s m args below meth c H locs kc ks (gQ below G Rp (some (va_rf r)) Sf args s mc ms) (F0 m 6 ls [])) (l0 : Nat) (l1 : Option Nat) (l2 : Int32) (l3 : Int32) (l4 : Option Nat) (l5 : Int32) (t0 : Int32) (S : gS) (H : Heap) (locs : List Loc) (ls : Array Slot) (kc ks C N : Nat) (hkc : kc + C ≤ mc) (hks : ks + N ≤ ms) (hH : hp G Rp S H) (hS : va_S G.2.2.2 s.heap H locs) (hl : lv_has ls 7 [(0, .ref l0), (1, va_rf l1), (2, .int l2), (3, .int l3), (4, va_rf l4), (5, .int l5)]) (hf : fX8_next_b62 k6 l0 l1 l2 l3 l4 l5 t0 S = some (r, Sf, C, N)) : W p l e (gR 15 540 mc ms) s m args below meth c H locs kc ks (gQ below G Rp (some (va_rf r)) Sf args s mc ms) (F0 m 62 ls [.int t0]) := by
  obtain ⟨hx, hb, hr, hlk, hml, hown, hts, hE, hA, hnm⟩ := hc
  have hc : gC p s m args meth c G RX8 "next" cX8_next 7 (some (.object "CreditBroker$Letter")) := ⟨hx, hb, hr, hlk, hml, hown, hts, hE, hA, hnm⟩
  unfold fX8_next_b62 at hf
  refine lv_istore (pc := 62) (i := 6) (lv' := [(6, .int t0), (0, .ref l0), (1, va_rf l1), (2, .int l2), (3, .int l3), (4, va_rf l4), (5, .int l5)]) hx hb dX8_next_62 hl (by decide) rfl (fun ls hl => ?_)
  refine lv_iload (pc := 64) hx hb dX8_next_64 (lv_at hl 0 rfl) ?_
  refine lv_if_eq (pc := 66) (tgt := 89) hx hb dX8_next_66 (by decide) (fun c1 => ?_) (fun c1 => ?_)
  · rw [if_pos c1] at hf
    refine lv_iload_n (pc := 89) hx hb dX8_next_89 rfl (lv_at hl 3 rfl) ?_
    refine lv_iload (pc := 90) hx hb dX8_next_90 (lv_at hl 6 rfl) ?_
    refine lv_ior (pc := 92) hx hb dX8_next_92 ?_
    refine lv_istore_n (pc := 93) (i := 2) (lv' := [(2, .int (l2 ||| l5)), (6, .int t0), (0, .ref l0), (1, va_rf l1), (3, .int l3), (4, va_rf l4), (5, .int l5)]) hx hb dX8_next_93 rfl hl (by decide) (by simp [va_rf_cat, cat_i, cat_j, cat_r] <;> rfl) (fun ls hl => ?_)
    refine lv_iinc (pc := 94) (v := l3 + (nI 1)) (lv' := [(3, .int (l3 + (nI 1))), (2, .int (l2 ||| l5)), (6, .int t0), (0, .ref l0), (1, va_rf l1), (4, va_rf l4), (5, .int l5)]) hx hb dX8_next_94 hl (k := 4) rfl rfl (by decide) rfl (fun ls hl => ?_)
    refine lv_goto (pc := 97) (tgt := 6) hx hb dX8_next_97 (by decide) ?_
    exact h6 l0 l1 (l2 ||| l5) (l3 + (nI 1)) S _ _ ls _ _ _ _ hkc hks hH hS (lv_sub hl [3, 4, 1, 0] rfl) hf
  · rw [if_neg c1] at hf
    refine g_aload_n (pc := 69) (o := l1) hx hb dX8_next_69 rfl (lv_at hl 2 rfl) ?_
    refine g_ifnull (pc := 70) (o := l1) (tgt := 86) hx hb dX8_next_70 (by decide) (fun c2 => ?_) (fun c2 => ?_)
    · rw [if_pos c2] at hf
      exact wX8_next_b86 hk hJ hc k6 h6 l0 l2 l3 l4 l5 S _ _ ls _ _ _ _ hkc hks hH hS (lv_sub hl [1, 3, 4, 5, 6] rfl) hf
    · rw [if_neg c2] at hf
      refine lv_aload_n (pc := 73) hx hb dX8_next_73 rfl (lv_at hl 1 rfl) ?_
      obtain ⟨v3, e3, hf⟩ := bdo hf
      refine g_get (pc := 74) (o := (some l0)) (a := l0) (ci := 3) (k := 8) (v := va_rf v3) (C := RX8) (T := TX8) (N := 13) hx hb hts hown hE hk hH in_X8 rfl (by decide) (hts _ q1170) (fun _ h9 => h9) rfl (rdR_o e3) dX8_next_74 ?_
      refine g_aload (pc := 77) (o := l4) hx hb dX8_next_77 (lv_at hl 5 rfl) ?_
      refine g_aload_n (pc := 79) (o := l1) hx hb dX8_next_79 rfl (lv_at hl 2 rfl) ?_
      obtain ⟨a5, ea5, hf⟩ := bdo hf
      obtain ⟨_, ek4, hf⟩ := bdo hf
      obtain ⟨v4, S4, c4, n4, c2_4, n2_4, e4, hf, hC4, hN4⟩ := gbo hf
      refine g_callV (pc := 80) (o := v3) (b := a5) (As := [va_rf l4, va_rf l1]) (rest := []) (st1 := [.int v4]) hc (mX9_compare hk hJ (l0 := a5) (l1 := l4) (l2 := l1) e4) (cwV 2 hts (lw_V q1759 q1760 q1761 q132 q1762) rfl rfl rfl hdX9_compare ⟨Nat.le_of_ble_eq_true rfl, Nat.le_of_ble_eq_true rfl⟩) (g_recv hE hk hH (ci := 10) (q := (RX9, noT, 0)) rfl (chk_o ek4).choose_spec) ea5 rfl hl.1 rfl rfl (lv_room (Nat.le_of_ble_eq_true rfl)) dX8_next_80 hH hS (by omega) (by omega) (fun H locs hH hS => ?_)
      have hkc : kc + c4 + c2_4 ≤ mc := by omega
      have hks : ks + n4 + n2_4 ≤ ms := by omega
      refine lv_if_ge (pc := 83) (tgt := 89) hx hb dX8_next_83 (by decide) (fun c6 => ?_) (fun c6 => ?_)
      · rw [if_pos c6] at hf
        refine lv_iload_n (pc := 89) hx hb dX8_next_89 rfl (lv_at hl 3 rfl) ?_
        refine lv_iload (pc := 90) hx hb dX8_next_90 (lv_at hl 6 rfl) ?_
        refine lv_ior (pc := 92) hx hb dX8_next_92 ?_
        refine lv_istore_n (pc := 93) (i := 2) (lv' := [(2, .int (l2 ||| l5)), (6, .int t0), (0, .ref l0), (1, va_rf l1), (3, .int l3), (4, va_rf l4), (5, .int l5)]) hx hb dX8_next_93 rfl hl (by decide) (by simp [va_rf_cat, cat_i, cat_j, cat_r] <;> rfl) (fun ls hl => ?_)
        refine lv_iinc (pc := 94) (v := l3 + (nI 1)) (lv' := [(3, .int (l3 + (nI 1))), (2, .int (l2 ||| l5)), (6, .int t0), (0, .ref l0), (1, va_rf l1), (4, va_rf l4), (5, .int l5)]) hx hb dX8_next_94 hl (k := 4) rfl rfl (by decide) rfl (fun ls hl => ?_)
        refine lv_goto (pc := 97) (tgt := 6) hx hb dX8_next_97 (by decide) ?_
        exact h6 l0 l1 (l2 ||| l5) (l3 + (nI 1)) S4 _ _ ls _ _ _ _ hkc hks hH hS (lv_sub hl [3, 4, 1, 0] rfl) hf
      · rw [if_neg c6] at hf
        exact wX8_next_b86 hk hJ hc k6 h6 l0 l2 l3 l4 l5 S4 _ _ ls _ _ _ _ hkc hks hH hS (lv_sub hl [1, 3, 4, 5, 6] rfl) hf
def fX8_next_b61 (k6 : Nat → (Option Nat) → Int32 → Int32 → gS → gO (Option Nat)) (l0 : Nat) (l1 : Option Nat) (l2 : Int32) (l3 : Int32) (l4 : Option Nat) (l5 : Int32) (S : gS) : gO (Option Nat) :=
  fX8_next_b62 k6 l0 l1 l2 l3 l4 l5 (nI 0) S
theorem wX8_next_b61 (hk : rOK Rp) (hJ : JDK l G Rp) (hc : gC p s m args meth c G RX8 "next" cX8_next 7 (some (.object "CreditBroker$Letter"))) (k6 : Nat → (Option Nat) → Int32 → Int32 → gS → gO (Option Nat)) (h6 : ∀ (l0 : Nat) (l1 : Option Nat) (l2 : Int32) (l3 : Int32) (S : gS) (H : Heap) (locs : List Loc) (ls : Array Slot) (kc ks C N : Nat), kc + C ≤ mc → ks + N ≤ ms → hp G Rp S H → va_S G.2.2.2 s.heap H locs → lv_has ls 7 [(0, .ref l0), (1, va_rf l1), (2, .int l2), (3, .int l3)] → k6 l0 l1 l2 l3 S = some (r, Sf, C, N) → W p l e (gR 15 540 mc ms) s m args below meth c H locs kc ks (gQ below G Rp (some (va_rf r)) Sf args s mc ms) (F0 m 6 ls [])) (l0 : Nat) (l1 : Option Nat) (l2 : Int32) (l3 : Int32) (l4 : Option Nat) (l5 : Int32) (S : gS) (H : Heap) (locs : List Loc) (ls : Array Slot) (kc ks C N : Nat) (hkc : kc + C ≤ mc) (hks : ks + N ≤ ms) (hH : hp G Rp S H) (hS : va_S G.2.2.2 s.heap H locs) (hl : lv_has ls 7 [(0, .ref l0), (1, va_rf l1), (2, .int l2), (3, .int l3), (4, va_rf l4), (5, .int l5)]) (hf : fX8_next_b61 k6 l0 l1 l2 l3 l4 l5 S = some (r, Sf, C, N)) : W p l e (gR 15 540 mc ms) s m args below meth c H locs kc ks (gQ below G Rp (some (va_rf r)) Sf args s mc ms) (F0 m 61 ls []) := by
  obtain ⟨hx, hb, hr, hlk, hml, hown, hts, hE, hA, hnm⟩ := hc
  have hc : gC p s m args meth c G RX8 "next" cX8_next 7 (some (.object "CreditBroker$Letter")) := ⟨hx, hb, hr, hlk, hml, hown, hts, hE, hA, hnm⟩
  unfold fX8_next_b61 at hf
  refine lv_iconst (pc := 61) (v := nI 0) hx hb dX8_next_61 rfl ?_
  exact wX8_next_b62 hk hJ hc k6 h6 l0 l1 l2 l3 l4 l5 (nI 0) S _ _ ls _ _ _ _ hkc hks hH hS (lv_sub hl [0, 1, 2, 3, 4, 5] rfl) hf
def fX8_next_b6 : Nat → Nat → (Option Nat) → Int32 → Int32 → gS → gO (Option Nat)
  | 0, _, _, _, _, _ => none
  | n + 1, l0, l1, l2, l3, S =>
    bd (rdR S l0 3 7) fun v1 =>
    bd v1 fun a3 =>
    gb (nAL_size a3  S) fun v2 S2 =>
    if v2 ≤ l3 then
      some (l1, S2, 0, 0)
    else
      bd (rdR S2 l0 3 7) fun v5 =>
      bd v5 fun a7 =>
      gb (nAL_get a7 l3 S2) fun v6 S6 =>
      bd (ckc S6 v6 4) fun _ =>
      bd v6 fun a9 =>
      bd (rdR S6 a9 4 0) fun v10 =>
      bd v10 fun a11 =>
      bd (rdI S6 a11 5 1) fun v12 =>
      bd (rdI S6 a9 4 1) fun v13 =>
      if v13 = 0 then
        if (l2 &&& ((nI 1) <<< (v12 &&& 31))) = 0 then
          fX8_next_b62 (fX8_next_b6 n) l0 l1 l2 l3 v6 ((nI 1) <<< (v12 &&& 31)) (nI 1) S6
        else
          fX8_next_b61 (fX8_next_b6 n) l0 l1 l2 l3 v6 ((nI 1) <<< (v12 &&& 31)) S6
      else
        fX8_next_b61 (fX8_next_b6 n) l0 l1 l2 l3 v6 ((nI 1) <<< (v12 &&& 31)) S6
theorem wX8_next_b6 (hk : rOK Rp) (hJ : JDK l G Rp) (hc : gC p s m args meth c G RX8 "next" cX8_next 7 (some (.object "CreditBroker$Letter"))) : ∀ (n : Nat) (l0 : Nat) (l1 : Option Nat) (l2 : Int32) (l3 : Int32) (S : gS) (H : Heap) (locs : List Loc) (ls : Array Slot) (kc ks C N : Nat), kc + C ≤ mc → ks + N ≤ ms → hp G Rp S H → va_S G.2.2.2 s.heap H locs → lv_has ls 7 [(0, .ref l0), (1, va_rf l1), (2, .int l2), (3, .int l3)] → fX8_next_b6 n l0 l1 l2 l3 S = some (r, Sf, C, N) → W p l e (gR 15 540 mc ms) s m args below meth c H locs kc ks (gQ below G Rp (some (va_rf r)) Sf args s mc ms) (F0 m 6 ls []) := by
  obtain ⟨hx, hb, hr, hlk, hml, hown, hts, hE, hA, hnm⟩ := hc
  have hc : gC p s m args meth c G RX8 "next" cX8_next 7 (some (.object "CreditBroker$Letter")) := ⟨hx, hb, hr, hlk, hml, hown, hts, hE, hA, hnm⟩
  intro n
  induction n with
  | zero => intro l0 l1 l2 l3 S H locs ls kc ks C N _ _ _ _ _ hf; exact absurd hf (fun h => by cases h)
  | succ n ih =>
    intro l0 l1 l2 l3 S H locs ls kc ks C N hkc hks hH hS hl hf
    rw [fX8_next_b6] at hf
    refine lv_iload_n (pc := 6) hx hb dX8_next_6 rfl (lv_at hl 3 rfl) ?_
    refine lv_aload_n (pc := 7) hx hb dX8_next_7 rfl (lv_at hl 0 rfl) ?_
    obtain ⟨v1, e1, hf⟩ := bdo hf
    refine g_get (pc := 8) (o := (some l0)) (a := l0) (ci := 3) (k := 7) (v := va_rf v1) (C := RX8) (T := TX8) (N := 13) hx hb hts hown hE hk hH in_X8 rfl (by decide) (hts _ q1167) (fun _ h9 => h9) rfl (rdR_o e1) dX8_next_8 ?_
    obtain ⟨a3, ea3, hf⟩ := bdo hf
    obtain ⟨v2, S2, c2, n2, c2_2, n2_2, e2, hf, hC2, hN2⟩ := gbo hf
    refine g_callV (pc := 11) (o := v1) (b := a3) (As := []) (rest := [.int l3]) (st1 := [.int v2, .int l3]) hc (j_nAL_size hJ a3  S v2 S2 c2 n2 e2) (cwV 0 hts (lw_V q1605 q1120 q1121 q101 q1122) rfl rfl rfl hdJ2_size ⟨Nat.le_of_ble_eq_true rfl, Nat.le_of_ble_eq_true rfl⟩) (j_recv hJ _ _ _ _ 0 _ _ hE hH hS (adtR (t := 0) (show bd _ _ = some _ from e2)).choose_spec) ea3 rfl hl.1 rfl rfl (lv_room (Nat.le_of_ble_eq_true rfl)) dX8_next_11 hH hS (by omega) (by omega) (fun H locs hH hS => ?_)
    have hkc : kc + c2 + c2_2 ≤ mc := by omega
    have hks : ks + n2 + n2_2 ≤ ms := by omega
    refine lv_icmp_ge (pc := 14) (tgt := 100) hx hb dX8_next_14 (by decide) (fun c4 => ?_) (fun c4 => ?_)
    · rw [if_pos c4] at hf
      refine g_aload_n (pc := 100) (o := l1) hx hb dX8_next_100 rfl (lv_at hl 1 rfl) ?_
      exact g_aret (pc := 101) (v := l1) hx hb hr (Or.inl ⟨_, rfl⟩) hlk hH hS hkc hks hf dX8_next_101
    · rw [if_neg c4] at hf
      refine lv_aload_n (pc := 17) hx hb dX8_next_17 rfl (lv_at hl 0 rfl) ?_
      obtain ⟨v5, e5, hf⟩ := bdo hf
      refine g_get (pc := 18) (o := (some l0)) (a := l0) (ci := 3) (k := 7) (v := va_rf v5) (C := RX8) (T := TX8) (N := 13) hx hb hts hown hE hk hH in_X8 rfl (by decide) (hts _ q1167) (fun _ h9 => h9) rfl (rdR_o e5) dX8_next_18 ?_
      refine lv_iload_n (pc := 21) hx hb dX8_next_21 rfl (lv_at hl 3 rfl) ?_
      obtain ⟨a7, ea7, hf⟩ := bdo hf
      obtain ⟨v6, S6, c6, n6, c2_6, n2_6, e6, hf, hC6, hN6⟩ := gbo hf
      refine g_callV (pc := 22) (o := v5) (b := a7) (As := [.int l3]) (rest := []) (st1 := [va_rf v6]) hc (j_nAL_get hJ a7 l3 S2 v6 S6 c6 n6 e6) (cwV 1 hts (lw_V q1757 q1223 q1224 q101 q1225) rfl rfl rfl hdJ2_get ⟨Nat.le_of_ble_eq_true rfl, Nat.le_of_ble_eq_true rfl⟩) (j_recv hJ _ _ _ _ 0 _ _ hE hH hS (adtR (t := 0) (show bd _ _ = some _ from e6)).choose_spec) ea7 rfl hl.1 rfl rfl (lv_room (Nat.le_of_ble_eq_true rfl)) dX8_next_22 hH hS (by omega) (by omega) (fun H locs hH hS => ?_)
      have hkc : kc + c2 + c6 + c2_6 ≤ mc := by omega
      have hks : ks + n2 + n6 + n2_6 ≤ ms := by omega
      obtain ⟨_, e8, hf⟩ := bdo hf
      refine g_cast (pc := 25) (o := v6) (ci := 4) (C := RX16) (T := TX16) (N := 6) hx hb hts hown hE hk hH rfl q1758 e8 dX8_next_25 ?_
      refine g_astore (pc := 28) (i := 4) (o := v6) (lv' := [(4, va_rf v6), (0, .ref l0), (1, va_rf l1), (2, .int l2), (3, .int l3)]) hx hb dX8_next_28 hl (by decide) rfl (fun ls hl => ?_)
      refine lv_iconst (pc := 30) (v := nI 1) hx hb dX8_next_30 rfl ?_
      refine g_aload (pc := 31) (o := v6) hx hb dX8_next_31 (lv_at hl 0 rfl) ?_
      obtain ⟨a9, ea9, hf⟩ := bdo hf
      obtain ⟨v10, e10, hf⟩ := bdo hf
      refine g_get (pc := 33) (o := v6) (a := a9) (ci := 4) (k := 0) (v := va_rf v10) (C := RX16) (T := TX16) (N := 6) hx hb hts hown hE hk hH in_X16 rfl (by decide) (hts _ q1711) (fun _ h9 => h9) ea9 (rdR_o e10) dX8_next_33 ?_
      obtain ⟨a11, ea11, hf⟩ := bdo hf
      obtain ⟨v12, e12, hf⟩ := bdo hf
      refine g_get (pc := 36) (o := v10) (a := a11) (ci := 5) (k := 1) (v := .int v12) (C := RX11) (T := TX11) (N := 6) hx hb hts hown hE hk hH in_X11 rfl (by decide) (hts _ q1551) (fun _ h9 => h9) ea11 (rdI_o e12) dX8_next_36 ?_
      refine lv_ishl (pc := 39) hx hb dX8_next_39 ?_
      refine lv_istore (pc := 40) (i := 5) (lv' := [(5, .int ((nI 1) <<< (v12 &&& 31))), (4, va_rf v6), (0, .ref l0), (1, va_rf l1), (2, .int l2), (3, .int l3)]) hx hb dX8_next_40 hl (by decide) (by simp [va_rf_cat, cat_i, cat_j, cat_r] <;> rfl) (fun ls hl => ?_)
      refine g_aload (pc := 42) (o := v6) hx hb dX8_next_42 (lv_at hl 1 rfl) ?_
      obtain ⟨v13, e13, hf⟩ := bdo hf
      refine g_get (pc := 44) (o := v6) (a := a9) (ci := 4) (k := 1) (v := .int v13) (C := RX16) (T := TX16) (N := 6) hx hb hts hown hE hk hH in_X16 rfl (by decide) (hts _ q1714) (fun _ h9 => h9) ea9 (rdI_o e13) dX8_next_44 ?_
      refine lv_if_ne (pc := 47) (tgt := 61) hx hb dX8_next_47 (by decide) (fun c14 => ?_) (fun c14 => ?_)
      · rw [if_neg c14] at hf
        exact wX8_next_b61 hk hJ hc (fX8_next_b6 n) ih l0 l1 l2 l3 v6 ((nI 1) <<< (v12 &&& 31)) S6 _ _ ls _ _ _ _ hkc hks hH hS (lv_sub hl [2, 3, 4, 5, 1, 0] rfl) hf
      · rw [if_pos c14] at hf
        refine lv_iload_n (pc := 50) hx hb dX8_next_50 rfl (lv_at hl 4 rfl) ?_
        refine lv_iload (pc := 51) hx hb dX8_next_51 (lv_at hl 0 rfl) ?_
        refine lv_iand (pc := 53) hx hb dX8_next_53 ?_
        refine lv_if_ne (pc := 54) (tgt := 61) hx hb dX8_next_54 (by decide) (fun c15 => ?_) (fun c15 => ?_)
        · rw [if_neg c15] at hf
          exact wX8_next_b61 hk hJ hc (fX8_next_b6 n) ih l0 l1 l2 l3 v6 ((nI 1) <<< (v12 &&& 31)) S6 _ _ ls _ _ _ _ hkc hks hH hS (lv_sub hl [2, 3, 4, 5, 1, 0] rfl) hf
        · rw [if_pos c15] at hf
          refine lv_iconst (pc := 57) (v := nI 1) hx hb dX8_next_57 rfl ?_
          refine lv_goto (pc := 58) (tgt := 62) hx hb dX8_next_58 (by decide) ?_
          exact wX8_next_b62 hk hJ hc (fX8_next_b6 n) ih l0 l1 l2 l3 v6 ((nI 1) <<< (v12 &&& 31)) (nI 1) S6 _ _ ls _ _ _ _ hkc hks hH hS (lv_sub hl [2, 3, 4, 5, 1, 0] rfl) hf
def fX8_next (l0 : Nat) (S : gS) : gO (Option Nat) :=
  fX8_next_b6 FU l0 none (nI 0) (nI 0) S
theorem wX8_next_b0 (hk : rOK Rp) (hJ : JDK l G Rp) (hc : gC p s m args meth c G RX8 "next" cX8_next 7 (some (.object "CreditBroker$Letter"))) (l0 : Nat) (S : gS) (H : Heap) (locs : List Loc) (ls : Array Slot) (kc ks C N : Nat) (hkc : kc + C ≤ mc) (hks : ks + N ≤ ms) (hH : hp G Rp S H) (hS : va_S G.2.2.2 s.heap H locs) (hl : lv_has ls 7 [(0, .ref l0)]) (hf : fX8_next l0 S = some (r, Sf, C, N)) : W p l e (gR 15 540 mc ms) s m args below meth c H locs kc ks (gQ below G Rp (some (va_rf r)) Sf args s mc ms) (F0 m 0 ls []) := by
  obtain ⟨hx, hb, hr, hlk, hml, hown, hts, hE, hA, hnm⟩ := hc
  have hc : gC p s m args meth c G RX8 "next" cX8_next 7 (some (.object "CreditBroker$Letter")) := ⟨hx, hb, hr, hlk, hml, hown, hts, hE, hA, hnm⟩
  unfold fX8_next at hf
  refine lv_null (pc := 0) hx hb dX8_next_0 ?_
  refine g_astore_n (pc := 1) (i := 1) (o := none) (lv' := [(1, .null), (0, .ref l0)]) hx hb dX8_next_1 rfl hl (by decide) rfl (fun ls hl => ?_)
  refine lv_iconst (pc := 2) (v := nI 0) hx hb dX8_next_2 rfl ?_
  refine lv_istore_n (pc := 3) (i := 2) (lv' := [(2, .int (nI 0)), (1, .null), (0, .ref l0)]) hx hb dX8_next_3 rfl hl (by decide) rfl (fun ls hl => ?_)
  refine lv_iconst (pc := 4) (v := nI 0) hx hb dX8_next_4 rfl ?_
  refine lv_istore_n (pc := 5) (i := 3) (lv' := [(3, .int (nI 0)), (2, .int (nI 0)), (1, .null), (0, .ref l0)]) hx hb dX8_next_5 rfl hl (by decide) rfl (fun ls hl => ?_)
  exact wX8_next_b6 hk hJ hc FU l0 none (nI 0) (nI 0) S _ _ ls _ _ _ _ hkc hks hH hS (lv_sub hl [3, 2, 1, 0] rfl) hf
theorem mX8_next {l : Launch} {G : gG} {Rp : gM → gM → Nat → Prop} (hk : rOK Rp) (hJ : JDK l G Rp) {S S2 : gS} {r2 : Option Nat} {C N : Nat} {l0 : Nat} (hf : fX8_next l0 S = some (r2, S2, C, N)) : gMet l yX8_next cX8_next 7 (some (.object "CreditBroker$Letter")) 15 540 G Rp [.ref l0] S (some (va_rf r2)) S2 C N := by
  refine g_start (by decide) (Nat.le_of_ble_eq_true rfl) (fun p e s m args below meth c ls hc hl hH => ?_)
  have hl : lv_has ls 7 [(0, .ref l0)] := hl
  exact wX8_next_b0 hk hJ hc l0 S _ _ ls 0 0 C N (by omega) (by omega) hH va_S.rf (lv_sub hl [0] rfl) hf
end
section
variable {r : Int32} {Sf : gS}
def fX1_isOf (l1 : Option Nat) (l2 : Option Nat) (S : gS) : gO Int32 :=
  bd l1 fun a1 =>
  bd (rdI S a1 6 1) fun v2 =>
  bd l2 fun a3 =>
  bd (rdI S a3 3 0) fun v4 =>
  if v2 = v4 then
    bd (rdI S a1 6 4) fun v6 =>
    if v6 = 0 then
      zg (nI 1) S
    else
      zg (nI 0) S
  else
    zg (nI 0) S
theorem wX1_isOf_b0 (hk : rOK Rp) (hJ : JDK l G Rp) (hc : gC p s m args meth c G RX1 "isOf" cX1_isOf 3 (some .boolean)) (l1 : Option Nat) (l2 : Option Nat) (S : gS) (H : Heap) (locs : List Loc) (ls : Array Slot) (kc ks C N : Nat) (hkc : kc + C ≤ mc) (hks : ks + N ≤ ms) (hH : hp G Rp S H) (hS : va_S G.2.2.2 s.heap H locs) (hl : lv_has ls 3 [(1, va_rf l1), (2, va_rf l2)]) (hf : fX1_isOf l1 l2 S = some (r, Sf, C, N)) : W p l e (gR 1 40 mc ms) s m args below meth c H locs kc ks (gQ below G Rp (some (.int r)) Sf args s mc ms) (F0 m 0 ls []) := by
  obtain ⟨hx, hb, hr, hlk, hml, hown, hts, hE, hA, hnm⟩ := hc
  have hc : gC p s m args meth c G RX1 "isOf" cX1_isOf 3 (some .boolean) := ⟨hx, hb, hr, hlk, hml, hown, hts, hE, hA, hnm⟩
  unfold fX1_isOf at hf
  refine g_aload_n (pc := 0) (o := l1) hx hb dX1_isOf_0 rfl (lv_at hl 0 rfl) ?_
  obtain ⟨a1, ea1, hf⟩ := bdo hf
  obtain ⟨v2, e2, hf⟩ := bdo hf
  refine g_get (pc := 1) (o := l1) (a := a1) (ci := 6) (k := 1) (v := .int v2) (C := RX10) (T := TX10) (N := 5) hx hb hts hown hE hk hH in_X10 rfl (by decide) (hts _ q1248) (fun _ h9 => h9) ea1 (rdI_o e2) dX1_isOf_1 ?_
  refine g_aload_n (pc := 4) (o := l2) hx hb dX1_isOf_4 rfl (lv_at hl 1 rfl) ?_
  obtain ⟨a3, ea3, hf⟩ := bdo hf
  obtain ⟨v4, e4, hf⟩ := bdo hf
  refine g_get (pc := 5) (o := l2) (a := a3) (ci := 3) (k := 0) (v := .int v4) (C := RX8) (T := TX8) (N := 13) hx hb hts hown hE hk hH in_X8 rfl (by decide) (hts _ q1151) (fun _ h9 => h9) ea3 (rdI_o e4) dX1_isOf_5 ?_
  refine lv_icmp_ne (pc := 8) (tgt := 22) hx hb dX1_isOf_8 (by decide) (fun c5 => ?_) (fun c5 => ?_)
  · rw [if_neg c5] at hf
    refine lv_iconst (pc := 22) (v := nI 0) hx hb dX1_isOf_22 rfl ?_
    exact g_zret (pc := 23) hx hb hr hlk hH hS hkc hks hf dX1_isOf_23
  · rw [if_pos c5] at hf
    refine g_aload_n (pc := 11) (o := l1) hx hb dX1_isOf_11 rfl (lv_at hl 0 rfl) ?_
    obtain ⟨v6, e6, hf⟩ := bdo hf
    refine g_get (pc := 12) (o := l1) (a := a1) (ci := 6) (k := 4) (v := .int v6) (C := RX10) (T := TX10) (N := 5) hx hb hts hown hE hk hH in_X10 rfl (by decide) (hts _ q1257) (fun _ h9 => h9) ea1 (rdI_o e6) dX1_isOf_12 ?_
    refine lv_if_ne (pc := 15) (tgt := 22) hx hb dX1_isOf_15 (by decide) (fun c7 => ?_) (fun c7 => ?_)
    · rw [if_neg c7] at hf
      refine lv_iconst (pc := 22) (v := nI 0) hx hb dX1_isOf_22 rfl ?_
      exact g_zret (pc := 23) hx hb hr hlk hH hS hkc hks hf dX1_isOf_23
    · rw [if_pos c7] at hf
      refine lv_iconst (pc := 18) (v := nI 1) hx hb dX1_isOf_18 rfl ?_
      refine lv_goto (pc := 19) (tgt := 23) hx hb dX1_isOf_19 (by decide) ?_
      exact g_zret (pc := 23) hx hb hr hlk hH hS hkc hks hf dX1_isOf_23
theorem mX1_isOf {l : Launch} {G : gG} {Rp : gM → gM → Nat → Prop} (hk : rOK Rp) (hJ : JDK l G Rp) {S S2 : gS} {r2 : Int32} {C N : Nat} {l0 : Nat} {l1 : Option Nat} {l2 : Option Nat} (hf : fX1_isOf l1 l2 S = some (r2, S2, C, N)) : gMet l yX1_isOf cX1_isOf 3 (some .boolean) 1 40 G Rp [.ref l0, va_rf l1, va_rf l2] S (some (.int r2)) S2 C N := by
  refine g_start (by decide) (by simp [lg_sl, va_rf_cat, cat_i, cat_j, cat_r]) (fun p e s m args below meth c ls hc hl hH => ?_)
  have hl : lv_has ls 3 [(0, .ref l0), (1, va_rf l1), (2, va_rf l2)] := by simpa [lv_args, va_rf_cat, cat_i, cat_j, cat_r] using hl
  exact wX1_isOf_b0 hk hJ hc l1 l2 S _ _ ls 0 0 C N (by omega) (by omega) hH va_S.rf (lv_sub hl [1, 2] rfl) hf
end
section
variable {r : Option Nat} {Sf : gS}
def fX1_who_b98 (k7 : Nat → (Option Nat) → (Option Nat) → (Option Nat) → Int32 → gS → gO (Option Nat)) (l0 : Nat) (l1 : Option Nat) (l3 : Option Nat) (l4 : Int32) (l5 : Option Nat) (l6 : Int32) (t0 : Option Nat) (S : gS) : gO (Option Nat) :=
  if l6 = 0 then
    k7 l0 l1 t0 l3 (l4 + (nI 1)) S
  else
    if l3 = none then
      bd l5 fun a3 =>
      bd (rdI S a3 6 0) fun v4 =>
      bd l1 fun a5 =>
      bd (rdI S a5 3 9) fun v6 =>
      if v4 ≤ v6 then
        k7 l0 l1 t0 l3 (l4 + (nI 1)) S
      else
        k7 l0 l1 t0 l5 (l4 + (nI 1)) S
    else
      k7 l0 l1 t0 l3 (l4 + (nI 1)) S
theorem wX1_who_b98 (hk : rOK Rp) (hJ : JDK l G Rp) (hc : gC p s m args meth c G RX1 "who" cX1_who 7 (some (.object "CreditBroker$Consumer"))) (k7 : Nat → (Option Nat) → (Option Nat) → (Option Nat) → Int32 → gS → gO (Option Nat)) (h7 : ∀ (l0 : Nat) (l1 : Option Nat) (l2 : Option Nat) (l3 : Option Nat) (l4 : Int32) (S : gS) (H : Heap) (locs : List Loc) (ls : Array Slot) (kc ks C N : Nat), kc + C ≤ mc → ks + N ≤ ms → hp G Rp S H → va_S G.2.2.2 s.heap H locs → lv_has ls 7 [(0, .ref l0), (1, va_rf l1), (2, va_rf l2), (3, va_rf l3), (4, .int l4)] → k7 l0 l1 l2 l3 l4 S = some (r, Sf, C, N) → W p l e (gR 15 540 mc ms) s m args below meth c H locs kc ks (gQ below G Rp (some (va_rf r)) Sf args s mc ms) (F0 m 7 ls [])) (l0 : Nat) (l1 : Option Nat) (l3 : Option Nat) (l4 : Int32) (l5 : Option Nat) (l6 : Int32) (t0 : Option Nat) (S : gS) (H : Heap) (locs : List Loc) (ls : Array Slot) (kc ks C N : Nat) (hkc : kc + C ≤ mc) (hks : ks + N ≤ ms) (hH : hp G Rp S H) (hS : va_S G.2.2.2 s.heap H locs) (hl : lv_has ls 7 [(0, .ref l0), (1, va_rf l1), (3, va_rf l3), (4, .int l4), (5, va_rf l5), (6, .int l6)]) (hf : fX1_who_b98 k7 l0 l1 l3 l4 l5 l6 t0 S = some (r, Sf, C, N)) : W p l e (gR 15 540 mc ms) s m args below meth c H locs kc ks (gQ below G Rp (some (va_rf r)) Sf args s mc ms) (F0 m 98 ls [va_rf t0]) := by
  obtain ⟨hx, hb, hr, hlk, hml, hown, hts, hE, hA, hnm⟩ := hc
  have hc : gC p s m args meth c G RX1 "who" cX1_who 7 (some (.object "CreditBroker$Consumer")) := ⟨hx, hb, hr, hlk, hml, hown, hts, hE, hA, hnm⟩
  unfold fX1_who_b98 at hf
  refine g_astore_n (pc := 98) (i := 2) (o := t0) (lv' := [(2, va_rf t0), (0, .ref l0), (1, va_rf l1), (3, va_rf l3), (4, .int l4), (5, va_rf l5), (6, .int l6)]) hx hb dX1_who_98 rfl hl (by decide) (by simp [va_rf_cat, cat_i, cat_j, cat_r] <;> rfl) (fun ls hl => ?_)
  refine lv_iload (pc := 99) hx hb dX1_who_99 (lv_at hl 6 rfl) ?_
  refine lv_if_eq (pc := 101) (tgt := 125) hx hb dX1_who_101 (by decide) (fun c1 => ?_) (fun c1 => ?_)
  · rw [if_pos c1] at hf
    refine g_aload_n (pc := 125) (o := l3) hx hb dX1_who_125 rfl (lv_at hl 3 rfl) ?_
    refine g_astore_n (pc := 126) (i := 3) (o := l3) (lv' := [(3, va_rf l3), (2, va_rf t0), (0, .ref l0), (1, va_rf l1), (4, .int l4), (5, va_rf l5), (6, .int l6)]) hx hb dX1_who_126 rfl hl (by decide) (by simp [va_rf_cat, cat_i, cat_j, cat_r] <;> rfl) (fun ls hl => ?_)
    refine lv_iinc (pc := 127) (v := l4 + (nI 1)) (lv' := [(4, .int (l4 + (nI 1))), (3, va_rf l3), (2, va_rf t0), (0, .ref l0), (1, va_rf l1), (5, va_rf l5), (6, .int l6)]) hx hb dX1_who_127 hl (k := 4) rfl rfl (by decide) (by simp [va_rf_cat, cat_i, cat_j, cat_r] <;> rfl) (fun ls hl => ?_)
    refine lv_goto (pc := 130) (tgt := 7) hx hb dX1_who_130 (by decide) ?_
    exact h7 l0 l1 t0 l3 (l4 + (nI 1)) S _ _ ls _ _ _ _ hkc hks hH hS (lv_sub hl [3, 4, 2, 1, 0] rfl) hf
  · rw [if_neg c1] at hf
    refine g_aload_n (pc := 104) (o := l3) hx hb dX1_who_104 rfl (lv_at hl 3 rfl) ?_
    refine g_ifnonnull (pc := 105) (o := l3) (tgt := 125) hx hb dX1_who_105 (by decide) (fun c2 => ?_) (fun c2 => ?_)
    · rw [if_neg c2] at hf
      refine g_aload_n (pc := 125) (o := l3) hx hb dX1_who_125 rfl (lv_at hl 3 rfl) ?_
      refine g_astore_n (pc := 126) (i := 3) (o := l3) (lv' := [(3, va_rf l3), (2, va_rf t0), (0, .ref l0), (1, va_rf l1), (4, .int l4), (5, va_rf l5), (6, .int l6)]) hx hb dX1_who_126 rfl hl (by decide) (by simp [va_rf_cat, cat_i, cat_j, cat_r] <;> rfl) (fun ls hl => ?_)
      refine lv_iinc (pc := 127) (v := l4 + (nI 1)) (lv' := [(4, .int (l4 + (nI 1))), (3, va_rf l3), (2, va_rf t0), (0, .ref l0), (1, va_rf l1), (5, va_rf l5), (6, .int l6)]) hx hb dX1_who_127 hl (k := 4) rfl rfl (by decide) (by simp [va_rf_cat, cat_i, cat_j, cat_r] <;> rfl) (fun ls hl => ?_)
      refine lv_goto (pc := 130) (tgt := 7) hx hb dX1_who_130 (by decide) ?_
      exact h7 l0 l1 t0 l3 (l4 + (nI 1)) S _ _ ls _ _ _ _ hkc hks hH hS (lv_sub hl [3, 4, 2, 1, 0] rfl) hf
    · rw [if_pos c2] at hf
      refine g_aload (pc := 108) (o := l5) hx hb dX1_who_108 (lv_at hl 5 rfl) ?_
      obtain ⟨a3, ea3, hf⟩ := bdo hf
      obtain ⟨v4, e4, hf⟩ := bdo hf
      refine g_get (pc := 110) (o := l5) (a := a3) (ci := 6) (k := 0) (v := .int v4) (C := RX10) (T := TX10) (N := 5) hx hb hts hown hE hk hH in_X10 rfl (by decide) (hts _ q1245) (fun _ h9 => h9) ea3 (rdI_o e4) dX1_who_110 ?_
      refine g_aload_n (pc := 113) (o := l1) hx hb dX1_who_113 rfl (lv_at hl 2 rfl) ?_
      obtain ⟨a5, ea5, hf⟩ := bdo hf
      obtain ⟨v6, e6, hf⟩ := bdo hf
      refine g_get (pc := 114) (o := l1) (a := a5) (ci := 3) (k := 9) (v := .int v6) (C := RX8) (T := TX8) (N := 13) hx hb hts hown hE hk hH in_X8 rfl (by decide) (hts _ q1172) (fun _ h9 => h9) ea5 (rdI_o e6) dX1_who_114 ?_
      refine lv_icmp_le (pc := 117) (tgt := 125) hx hb dX1_who_117 (by decide) (fun c7 => ?_) (fun c7 => ?_)
      · rw [if_pos c7] at hf
        refine g_aload_n (pc := 125) (o := l3) hx hb dX1_who_125 rfl (lv_at hl 3 rfl) ?_
        refine g_astore_n (pc := 126) (i := 3) (o := l3) (lv' := [(3, va_rf l3), (2, va_rf t0), (0, .ref l0), (1, va_rf l1), (4, .int l4), (5, va_rf l5), (6, .int l6)]) hx hb dX1_who_126 rfl hl (by decide) (by simp [va_rf_cat, cat_i, cat_j, cat_r] <;> rfl) (fun ls hl => ?_)
        refine lv_iinc (pc := 127) (v := l4 + (nI 1)) (lv' := [(4, .int (l4 + (nI 1))), (3, va_rf l3), (2, va_rf t0), (0, .ref l0), (1, va_rf l1), (5, va_rf l5), (6, .int l6)]) hx hb dX1_who_127 hl (k := 4) rfl rfl (by decide) (by simp [va_rf_cat, cat_i, cat_j, cat_r] <;> rfl) (fun ls hl => ?_)
        refine lv_goto (pc := 130) (tgt := 7) hx hb dX1_who_130 (by decide) ?_
        exact h7 l0 l1 t0 l3 (l4 + (nI 1)) S _ _ ls _ _ _ _ hkc hks hH hS (lv_sub hl [3, 4, 2, 1, 0] rfl) hf
      · rw [if_neg c7] at hf
        refine g_aload (pc := 120) (o := l5) hx hb dX1_who_120 (lv_at hl 5 rfl) ?_
        refine lv_goto (pc := 122) (tgt := 126) hx hb dX1_who_122 (by decide) ?_
        refine g_astore_n (pc := 126) (i := 3) (o := l5) (lv' := [(3, va_rf l5), (2, va_rf t0), (0, .ref l0), (1, va_rf l1), (4, .int l4), (5, va_rf l5), (6, .int l6)]) hx hb dX1_who_126 rfl hl (by decide) (by simp [va_rf_cat, cat_i, cat_j, cat_r] <;> rfl) (fun ls hl => ?_)
        refine lv_iinc (pc := 127) (v := l4 + (nI 1)) (lv' := [(4, .int (l4 + (nI 1))), (3, va_rf l5), (2, va_rf t0), (0, .ref l0), (1, va_rf l1), (5, va_rf l5), (6, .int l6)]) hx hb dX1_who_127 hl (k := 4) rfl rfl (by decide) (by simp [va_rf_cat, cat_i, cat_j, cat_r] <;> rfl) (fun ls hl => ?_)
        refine lv_goto (pc := 130) (tgt := 7) hx hb dX1_who_130 (by decide) ?_
        exact h7 l0 l1 t0 l5 (l4 + (nI 1)) S _ _ ls _ _ _ _ hkc hks hH hS (lv_sub hl [3, 4, 2, 1, 0] rfl) hf
def fX1_who_b97 (k7 : Nat → (Option Nat) → (Option Nat) → (Option Nat) → Int32 → gS → gO (Option Nat)) (l0 : Nat) (l1 : Option Nat) (l2 : Option Nat) (l3 : Option Nat) (l4 : Int32) (l5 : Option Nat) (l6 : Int32) (S : gS) : gO (Option Nat) :=
  fX1_who_b98 k7 l0 l1 l3 l4 l5 l6 l2 S
theorem wX1_who_b97 (hk : rOK Rp) (hJ : JDK l G Rp) (hc : gC p s m args meth c G RX1 "who" cX1_who 7 (some (.object "CreditBroker$Consumer"))) (k7 : Nat → (Option Nat) → (Option Nat) → (Option Nat) → Int32 → gS → gO (Option Nat)) (h7 : ∀ (l0 : Nat) (l1 : Option Nat) (l2 : Option Nat) (l3 : Option Nat) (l4 : Int32) (S : gS) (H : Heap) (locs : List Loc) (ls : Array Slot) (kc ks C N : Nat), kc + C ≤ mc → ks + N ≤ ms → hp G Rp S H → va_S G.2.2.2 s.heap H locs → lv_has ls 7 [(0, .ref l0), (1, va_rf l1), (2, va_rf l2), (3, va_rf l3), (4, .int l4)] → k7 l0 l1 l2 l3 l4 S = some (r, Sf, C, N) → W p l e (gR 15 540 mc ms) s m args below meth c H locs kc ks (gQ below G Rp (some (va_rf r)) Sf args s mc ms) (F0 m 7 ls [])) (l0 : Nat) (l1 : Option Nat) (l2 : Option Nat) (l3 : Option Nat) (l4 : Int32) (l5 : Option Nat) (l6 : Int32) (S : gS) (H : Heap) (locs : List Loc) (ls : Array Slot) (kc ks C N : Nat) (hkc : kc + C ≤ mc) (hks : ks + N ≤ ms) (hH : hp G Rp S H) (hS : va_S G.2.2.2 s.heap H locs) (hl : lv_has ls 7 [(0, .ref l0), (1, va_rf l1), (2, va_rf l2), (3, va_rf l3), (4, .int l4), (5, va_rf l5), (6, .int l6)]) (hf : fX1_who_b97 k7 l0 l1 l2 l3 l4 l5 l6 S = some (r, Sf, C, N)) : W p l e (gR 15 540 mc ms) s m args below meth c H locs kc ks (gQ below G Rp (some (va_rf r)) Sf args s mc ms) (F0 m 97 ls []) := by
  obtain ⟨hx, hb, hr, hlk, hml, hown, hts, hE, hA, hnm⟩ := hc
  have hc : gC p s m args meth c G RX1 "who" cX1_who 7 (some (.object "CreditBroker$Consumer")) := ⟨hx, hb, hr, hlk, hml, hown, hts, hE, hA, hnm⟩
  unfold fX1_who_b97 at hf
  refine g_aload_n (pc := 97) (o := l2) hx hb dX1_who_97 rfl (lv_at hl 2 rfl) ?_
  exact wX1_who_b98 hk hJ hc k7 h7 l0 l1 l3 l4 l5 l6 l2 S _ _ ls _ _ _ _ hkc hks hH hS (lv_sub hl [0, 1, 3, 4, 5, 6] rfl) hf
def fX1_who_b81 (k7 : Nat → (Option Nat) → (Option Nat) → (Option Nat) → Int32 → gS → gO (Option Nat)) (l0 : Nat) (l1 : Option Nat) (l2 : Option Nat) (l3 : Option Nat) (l4 : Int32) (l5 : Option Nat) (t0 : Int32) (S : gS) : gO (Option Nat) :=
  if t0 = 0 then
    fX1_who_b97 k7 l0 l1 l2 l3 l4 l5 t0 S
  else
    if l2 = none then
      fX1_who_b98 k7 l0 l1 l3 l4 l5 t0 l5 S
    else
      fX1_who_b97 k7 l0 l1 l2 l3 l4 l5 t0 S
theorem wX1_who_b81 (hk : rOK Rp) (hJ : JDK l G Rp) (hc : gC p s m args meth c G RX1 "who" cX1_who 7 (some (.object "CreditBroker$Consumer"))) (k7 : Nat → (Option Nat) → (Option Nat) → (Option Nat) → Int32 → gS → gO (Option Nat)) (h7 : ∀ (l0 : Nat) (l1 : Option Nat) (l2 : Option Nat) (l3 : Option Nat) (l4 : Int32) (S : gS) (H : Heap) (locs : List Loc) (ls : Array Slot) (kc ks C N : Nat), kc + C ≤ mc → ks + N ≤ ms → hp G Rp S H → va_S G.2.2.2 s.heap H locs → lv_has ls 7 [(0, .ref l0), (1, va_rf l1), (2, va_rf l2), (3, va_rf l3), (4, .int l4)] → k7 l0 l1 l2 l3 l4 S = some (r, Sf, C, N) → W p l e (gR 15 540 mc ms) s m args below meth c H locs kc ks (gQ below G Rp (some (va_rf r)) Sf args s mc ms) (F0 m 7 ls [])) (l0 : Nat) (l1 : Option Nat) (l2 : Option Nat) (l3 : Option Nat) (l4 : Int32) (l5 : Option Nat) (t0 : Int32) (S : gS) (H : Heap) (locs : List Loc) (ls : Array Slot) (kc ks C N : Nat) (hkc : kc + C ≤ mc) (hks : ks + N ≤ ms) (hH : hp G Rp S H) (hS : va_S G.2.2.2 s.heap H locs) (hl : lv_has ls 7 [(0, .ref l0), (1, va_rf l1), (2, va_rf l2), (3, va_rf l3), (4, .int l4), (5, va_rf l5)]) (hf : fX1_who_b81 k7 l0 l1 l2 l3 l4 l5 t0 S = some (r, Sf, C, N)) : W p l e (gR 15 540 mc ms) s m args below meth c H locs kc ks (gQ below G Rp (some (va_rf r)) Sf args s mc ms) (F0 m 81 ls [.int t0]) := by
  obtain ⟨hx, hb, hr, hlk, hml, hown, hts, hE, hA, hnm⟩ := hc
  have hc : gC p s m args meth c G RX1 "who" cX1_who 7 (some (.object "CreditBroker$Consumer")) := ⟨hx, hb, hr, hlk, hml, hown, hts, hE, hA, hnm⟩
  unfold fX1_who_b81 at hf
  refine lv_istore (pc := 81) (i := 6) (lv' := [(6, .int t0), (0, .ref l0), (1, va_rf l1), (2, va_rf l2), (3, va_rf l3), (4, .int l4), (5, va_rf l5)]) hx hb dX1_who_81 hl (by decide) (by simp [va_rf_cat, cat_i, cat_j, cat_r] <;> rfl) (fun ls hl => ?_)
  refine lv_iload (pc := 83) hx hb dX1_who_83 (lv_at hl 0 rfl) ?_
  refine lv_if_eq (pc := 85) (tgt := 97) hx hb dX1_who_85 (by decide) (fun c1 => ?_) (fun c1 => ?_)
  · rw [if_pos c1] at hf
    exact wX1_who_b97 hk hJ hc k7 h7 l0 l1 l2 l3 l4 l5 t0 S _ _ ls _ _ _ _ hkc hks hH hS (lv_sub hl [1, 2, 3, 4, 5, 6, 0] rfl) hf
  · rw [if_neg c1] at hf
    refine g_aload_n (pc := 88) (o := l2) hx hb dX1_who_88 rfl (lv_at hl 3 rfl) ?_
    refine g_ifnonnull (pc := 89) (o := l2) (tgt := 97) hx hb dX1_who_89 (by decide) (fun c2 => ?_) (fun c2 => ?_)
    · rw [if_neg c2] at hf
      exact wX1_who_b97 hk hJ hc k7 h7 l0 l1 l2 l3 l4 l5 t0 S _ _ ls _ _ _ _ hkc hks hH hS (lv_sub hl [1, 2, 3, 4, 5, 6, 0] rfl) hf
    · rw [if_pos c2] at hf
      refine g_aload (pc := 92) (o := l5) hx hb dX1_who_92 (lv_at hl 6 rfl) ?_
      refine lv_goto (pc := 94) (tgt := 98) hx hb dX1_who_94 (by decide) ?_
      exact wX1_who_b98 hk hJ hc k7 h7 l0 l1 l3 l4 l5 t0 l5 S _ _ ls _ _ _ _ hkc hks hH hS (lv_sub hl [1, 2, 4, 5, 6, 0] rfl) hf
def fX1_who_b7 : Nat → Nat → (Option Nat) → (Option Nat) → (Option Nat) → Int32 → gS → gO (Option Nat)
  | 0, _, _, _, _, _, _ => none
  | n + 1, l0, l1, l2, l3, l4, S =>
    bd (rdR S l0 1 1) fun v1 =>
    bd v1 fun a3 =>
    gb (nAL_size a3  S) fun v2 S2 =>
    if v2 ≤ l4 then
      if l3 = none then
        some (l2, S2, 0, 0)
      else
        some (l3, S2, 0, 0)
    else
      bd (rdR S2 l0 1 1) fun v6 =>
      bd v6 fun a8 =>
      gb (nAL_get a8 l4 S2) fun v7 S7 =>
      bd (ckc S7 v7 6) fun _ =>
      bd (chk S7 l0 1) fun _ =>
      gb (fX1_isOf v7 l1 S7) fun v10 S10 =>
      if v10 = 0 then
        fX1_who_b7 n l0 l1 l2 l3 (l4 + (nI 1)) S10
      else
        bd l1 fun a12 =>
        bd (rdI S10 a12 3 6) fun v13 =>
        if v13 = 0 then
          bd v7 fun a15 =>
          bd (rdI S10 a15 6 2) fun v16 =>
          if v16 ≤ 0 then
            fX1_who_b81 (fX1_who_b7 n) l0 l1 l2 l3 l4 v7 (nI 0) S10
          else
            fX1_who_b81 (fX1_who_b7 n) l0 l1 l2 l3 l4 v7 (nI 1) S10
        else
          bd v7 fun a18 =>
          bd (rdI S10 a18 6 2) fun v19 =>
          if v19 ≤ 0 then
            some (none, S10, 0, 0)
          else
            some (v7, S10, 0, 0)
theorem wX1_who_b7 (hk : rOK Rp) (hJ : JDK l G Rp) (hc : gC p s m args meth c G RX1 "who" cX1_who 7 (some (.object "CreditBroker$Consumer"))) : ∀ (n : Nat) (l0 : Nat) (l1 : Option Nat) (l2 : Option Nat) (l3 : Option Nat) (l4 : Int32) (S : gS) (H : Heap) (locs : List Loc) (ls : Array Slot) (kc ks C N : Nat), kc + C ≤ mc → ks + N ≤ ms → hp G Rp S H → va_S G.2.2.2 s.heap H locs → lv_has ls 7 [(0, .ref l0), (1, va_rf l1), (2, va_rf l2), (3, va_rf l3), (4, .int l4)] → fX1_who_b7 n l0 l1 l2 l3 l4 S = some (r, Sf, C, N) → W p l e (gR 15 540 mc ms) s m args below meth c H locs kc ks (gQ below G Rp (some (va_rf r)) Sf args s mc ms) (F0 m 7 ls []) := by
  obtain ⟨hx, hb, hr, hlk, hml, hown, hts, hE, hA, hnm⟩ := hc
  have hc : gC p s m args meth c G RX1 "who" cX1_who 7 (some (.object "CreditBroker$Consumer")) := ⟨hx, hb, hr, hlk, hml, hown, hts, hE, hA, hnm⟩
  intro n
  induction n with
  | zero => intro l0 l1 l2 l3 l4 S H locs ls kc ks C N _ _ _ _ _ hf; exact absurd hf (fun h => by cases h)
  | succ n ih =>
    intro l0 l1 l2 l3 l4 S H locs ls kc ks C N hkc hks hH hS hl hf
    rw [fX1_who_b7] at hf
    refine lv_iload (pc := 7) hx hb dX1_who_7 (lv_at hl 4 rfl) ?_
    refine lv_aload_n (pc := 9) hx hb dX1_who_9 rfl (lv_at hl 0 rfl) ?_
    obtain ⟨v1, e1, hf⟩ := bdo hf
    refine g_get (pc := 10) (o := (some l0)) (a := l0) (ci := 1) (k := 1) (v := va_rf v1) (C := RX1) (T := TX1) (N := 7) hx hb hts hown hE hk hH in_X1 rfl (by decide) (hts _ q233) (fun _ h9 => h9) rfl (rdR_o e1) dX1_who_10 ?_
    obtain ⟨a3, ea3, hf⟩ := bdo hf
    obtain ⟨v2, S2, c2, n2, c2_2, n2_2, e2, hf, hC2, hN2⟩ := gbo hf
    refine g_callV (pc := 13) (o := v1) (b := a3) (As := []) (rest := [.int l4]) (st1 := [.int v2, .int l4]) hc (j_nAL_size hJ a3  S v2 S2 c2 n2 e2) (cwV 0 hts (lw_V q1539 q1120 q1121 q101 q1122) rfl rfl rfl hdJ2_size ⟨Nat.le_of_ble_eq_true rfl, Nat.le_of_ble_eq_true rfl⟩) (j_recv hJ _ _ _ _ 0 _ _ hE hH hS (adtR (t := 0) (show bd _ _ = some _ from e2)).choose_spec) ea3 rfl hl.1 rfl rfl (lv_room (Nat.le_of_ble_eq_true rfl)) dX1_who_13 hH hS (by omega) (by omega) (fun H locs hH hS => ?_)
    have hkc : kc + c2 + c2_2 ≤ mc := by omega
    have hks : ks + n2 + n2_2 ≤ ms := by omega
    refine lv_icmp_ge (pc := 16) (tgt := 133) hx hb dX1_who_16 (by decide) (fun c4 => ?_) (fun c4 => ?_)
    · rw [if_pos c4] at hf
      refine g_aload_n (pc := 133) (o := l3) hx hb dX1_who_133 rfl (lv_at hl 3 rfl) ?_
      refine g_ifnull (pc := 134) (o := l3) (tgt := 141) hx hb dX1_who_134 (by decide) (fun c5 => ?_) (fun c5 => ?_)
      · rw [if_pos c5] at hf
        refine g_aload_n (pc := 141) (o := l2) hx hb dX1_who_141 rfl (lv_at hl 2 rfl) ?_
        exact g_aret (pc := 142) (v := l2) hx hb hr (Or.inl ⟨_, rfl⟩) hlk hH hS hkc hks hf dX1_who_142
      · rw [if_neg c5] at hf
        refine g_aload_n (pc := 137) (o := l3) hx hb dX1_who_137 rfl (lv_at hl 3 rfl) ?_
        refine lv_goto (pc := 138) (tgt := 142) hx hb dX1_who_138 (by decide) ?_
        exact g_aret (pc := 142) (v := l3) hx hb hr (Or.inl ⟨_, rfl⟩) hlk hH hS hkc hks hf dX1_who_142
    · rw [if_neg c4] at hf
      refine lv_aload_n (pc := 19) hx hb dX1_who_19 rfl (lv_at hl 0 rfl) ?_
      obtain ⟨v6, e6, hf⟩ := bdo hf
      refine g_get (pc := 20) (o := (some l0)) (a := l0) (ci := 1) (k := 1) (v := va_rf v6) (C := RX1) (T := TX1) (N := 7) hx hb hts hown hE hk hH in_X1 rfl (by decide) (hts _ q233) (fun _ h9 => h9) rfl (rdR_o e6) dX1_who_20 ?_
      refine lv_iload (pc := 23) hx hb dX1_who_23 (lv_at hl 4 rfl) ?_
      obtain ⟨a8, ea8, hf⟩ := bdo hf
      obtain ⟨v7, S7, c7, n7, c2_7, n2_7, e7, hf, hC7, hN7⟩ := gbo hf
      refine g_callV (pc := 25) (o := v6) (b := a8) (As := [.int l4]) (rest := []) (st1 := [va_rf v7]) hc (j_nAL_get hJ a8 l4 S2 v7 S7 c7 n7 e7) (cwV 1 hts (lw_V q1290 q1223 q1224 q101 q1225) rfl rfl rfl hdJ2_get ⟨Nat.le_of_ble_eq_true rfl, Nat.le_of_ble_eq_true rfl⟩) (j_recv hJ _ _ _ _ 0 _ _ hE hH hS (adtR (t := 0) (show bd _ _ = some _ from e7)).choose_spec) ea8 rfl hl.1 rfl rfl (lv_room (Nat.le_of_ble_eq_true rfl)) dX1_who_25 hH hS (by omega) (by omega) (fun H locs hH hS => ?_)
      have hkc : kc + c2 + c7 + c2_7 ≤ mc := by omega
      have hks : ks + n2 + n7 + n2_7 ≤ ms := by omega
      obtain ⟨_, e9, hf⟩ := bdo hf
      refine g_cast (pc := 28) (o := v7) (ci := 6) (C := RX10) (T := TX10) (N := 5) hx hb hts hown hE hk hH rfl q1767 e9 dX1_who_28 ?_
      refine g_astore (pc := 31) (i := 5) (o := v7) (lv' := [(5, va_rf v7), (0, .ref l0), (1, va_rf l1), (2, va_rf l2), (3, va_rf l3), (4, .int l4)]) hx hb dX1_who_31 hl (by decide) rfl (fun ls hl => ?_)
      refine lv_aload_n (pc := 33) hx hb dX1_who_33 rfl (lv_at hl 1 rfl) ?_
      refine g_aload (pc := 34) (o := v7) hx hb dX1_who_34 (lv_at hl 0 rfl) ?_
      refine g_aload_n (pc := 36) (o := l1) hx hb dX1_who_36 rfl (lv_at hl 2 rfl) ?_
      obtain ⟨_, ek10, hf⟩ := bdo hf
      obtain ⟨v10, S10, c10, n10, c2_10, n2_10, e10, hf, hC10, hN10⟩ := gbo hf
      refine g_callV (pc := 37) (o := (some l0)) (b := l0) (As := [va_rf v7, va_rf l1]) (rest := []) (st1 := [.int v10]) hc (mX1_isOf hk hJ (l0 := l0) (l1 := v7) (l2 := l1) e10) (cwV 2 hts (lw_V q1768 q1770 qs27 q98 q1771) rfl rfl rfl hdX1_isOf ⟨Nat.le_of_ble_eq_true rfl, Nat.le_of_ble_eq_true rfl⟩) (g_recv hE hk hH (ci := 1) (q := (RX1, TX1, 7)) rfl (chk_o ek10).choose_spec) rfl rfl hl.1 rfl rfl (lv_room (Nat.le_of_ble_eq_true rfl)) dX1_who_37 hH hS (by omega) (by omega) (fun H locs hH hS => ?_)
      have hkc : kc + c2 + c7 + c10 + c2_10 ≤ mc := by omega
      have hks : ks + n2 + n7 + n10 + n2_10 ≤ ms := by omega
      refine lv_if_ne (pc := 40) (tgt := 46) hx hb dX1_who_40 (by decide) (fun c11 => ?_) (fun c11 => ?_)
      · rw [if_neg c11] at hf
        refine g_aload_n (pc := 46) (o := l1) hx hb dX1_who_46 rfl (lv_at hl 2 rfl) ?_
        obtain ⟨a12, ea12, hf⟩ := bdo hf
        obtain ⟨v13, e13, hf⟩ := bdo hf
        refine g_get (pc := 47) (o := l1) (a := a12) (ci := 3) (k := 6) (v := .int v13) (C := RX8) (T := TX8) (N := 13) hx hb hts hown hE hk hH in_X8 rfl (by decide) (hts _ q1165) (fun _ h9 => h9) ea12 (rdI_o e13) dX1_who_47 ?_
        refine lv_if_eq (pc := 50) (tgt := 68) hx hb dX1_who_50 (by decide) (fun c14 => ?_) (fun c14 => ?_)
        · rw [if_pos c14] at hf
          refine g_aload (pc := 68) (o := v7) hx hb dX1_who_68 (lv_at hl 0 rfl) ?_
          obtain ⟨a15, ea15, hf⟩ := bdo hf
          obtain ⟨v16, e16, hf⟩ := bdo hf
          refine g_get (pc := 70) (o := v7) (a := a15) (ci := 6) (k := 2) (v := .int v16) (C := RX10) (T := TX10) (N := 5) hx hb hts hown hE hk hH in_X10 rfl (by decide) (hts _ q1251) (fun _ h9 => h9) ea15 (rdI_o e16) dX1_who_70 ?_
          refine lv_if_le (pc := 73) (tgt := 80) hx hb dX1_who_73 (by decide) (fun c17 => ?_) (fun c17 => ?_)
          · rw [if_pos c17] at hf
            refine lv_iconst (pc := 80) (v := nI 0) hx hb dX1_who_80 rfl ?_
            exact wX1_who_b81 hk hJ hc (fX1_who_b7 n) ih l0 l1 l2 l3 l4 v7 (nI 0) S10 _ _ ls _ _ _ _ hkc hks hH hS (lv_sub hl [1, 2, 3, 4, 5, 0] rfl) hf
          · rw [if_neg c17] at hf
            refine lv_iconst (pc := 76) (v := nI 1) hx hb dX1_who_76 rfl ?_
            refine lv_goto (pc := 77) (tgt := 81) hx hb dX1_who_77 (by decide) ?_
            exact wX1_who_b81 hk hJ hc (fX1_who_b7 n) ih l0 l1 l2 l3 l4 v7 (nI 1) S10 _ _ ls _ _ _ _ hkc hks hH hS (lv_sub hl [1, 2, 3, 4, 5, 0] rfl) hf
        · rw [if_neg c14] at hf
          refine g_aload (pc := 53) (o := v7) hx hb dX1_who_53 (lv_at hl 0 rfl) ?_
          obtain ⟨a18, ea18, hf⟩ := bdo hf
          obtain ⟨v19, e19, hf⟩ := bdo hf
          refine g_get (pc := 55) (o := v7) (a := a18) (ci := 6) (k := 2) (v := .int v19) (C := RX10) (T := TX10) (N := 5) hx hb hts hown hE hk hH in_X10 rfl (by decide) (hts _ q1251) (fun _ h9 => h9) ea18 (rdI_o e19) dX1_who_55 ?_
          refine lv_if_le (pc := 58) (tgt := 66) hx hb dX1_who_58 (by decide) (fun c20 => ?_) (fun c20 => ?_)
          · rw [if_pos c20] at hf
            refine lv_null (pc := 66) hx hb dX1_who_66 ?_
            exact g_aret (pc := 67) (v := none) hx hb hr (Or.inl ⟨_, rfl⟩) hlk hH hS hkc hks hf dX1_who_67
          · rw [if_neg c20] at hf
            refine g_aload (pc := 61) (o := v7) hx hb dX1_who_61 (lv_at hl 0 rfl) ?_
            refine lv_goto (pc := 63) (tgt := 67) hx hb dX1_who_63 (by decide) ?_
            exact g_aret (pc := 67) (v := v7) hx hb hr (Or.inl ⟨_, rfl⟩) hlk hH hS hkc hks hf dX1_who_67
      · rw [if_pos c11] at hf
        refine lv_goto (pc := 43) (tgt := 127) hx hb dX1_who_43 (by decide) ?_
        refine lv_iinc (pc := 127) (v := l4 + (nI 1)) (lv' := [(4, .int (l4 + (nI 1))), (5, va_rf v7), (0, .ref l0), (1, va_rf l1), (2, va_rf l2), (3, va_rf l3)]) hx hb dX1_who_127 hl (k := 5) rfl rfl (by decide) (by simp [va_rf_cat, cat_i, cat_j, cat_r] <;> rfl) (fun ls hl => ?_)
        refine lv_goto (pc := 130) (tgt := 7) hx hb dX1_who_130 (by decide) ?_
        exact ih l0 l1 l2 l3 (l4 + (nI 1)) S10 _ _ ls _ _ _ _ hkc hks hH hS (lv_sub hl [2, 3, 4, 5, 0] rfl) hf
def fX1_who (l0 : Nat) (l1 : Option Nat) (S : gS) : gO (Option Nat) :=
  fX1_who_b7 FU l0 l1 none none (nI 0) S
theorem wX1_who_b0 (hk : rOK Rp) (hJ : JDK l G Rp) (hc : gC p s m args meth c G RX1 "who" cX1_who 7 (some (.object "CreditBroker$Consumer"))) (l0 : Nat) (l1 : Option Nat) (S : gS) (H : Heap) (locs : List Loc) (ls : Array Slot) (kc ks C N : Nat) (hkc : kc + C ≤ mc) (hks : ks + N ≤ ms) (hH : hp G Rp S H) (hS : va_S G.2.2.2 s.heap H locs) (hl : lv_has ls 7 [(0, .ref l0), (1, va_rf l1)]) (hf : fX1_who l0 l1 S = some (r, Sf, C, N)) : W p l e (gR 15 540 mc ms) s m args below meth c H locs kc ks (gQ below G Rp (some (va_rf r)) Sf args s mc ms) (F0 m 0 ls []) := by
  obtain ⟨hx, hb, hr, hlk, hml, hown, hts, hE, hA, hnm⟩ := hc
  have hc : gC p s m args meth c G RX1 "who" cX1_who 7 (some (.object "CreditBroker$Consumer")) := ⟨hx, hb, hr, hlk, hml, hown, hts, hE, hA, hnm⟩
  unfold fX1_who at hf
  refine lv_null (pc := 0) hx hb dX1_who_0 ?_
  refine g_astore_n (pc := 1) (i := 2) (o := none) (lv' := [(2, .null), (0, .ref l0), (1, va_rf l1)]) hx hb dX1_who_1 rfl hl (by decide) (by simp [va_rf_cat, cat_i, cat_j, cat_r] <;> rfl) (fun ls hl => ?_)
  refine lv_null (pc := 2) hx hb dX1_who_2 ?_
  refine g_astore_n (pc := 3) (i := 3) (o := none) (lv' := [(3, .null), (2, .null), (0, .ref l0), (1, va_rf l1)]) hx hb dX1_who_3 rfl hl (by decide) rfl (fun ls hl => ?_)
  refine lv_iconst (pc := 4) (v := nI 0) hx hb dX1_who_4 rfl ?_
  refine lv_istore (pc := 5) (i := 4) (lv' := [(4, .int (nI 0)), (3, .null), (2, .null), (0, .ref l0), (1, va_rf l1)]) hx hb dX1_who_5 hl (by decide) rfl (fun ls hl => ?_)
  exact wX1_who_b7 hk hJ hc FU l0 l1 none none (nI 0) S _ _ ls _ _ _ _ hkc hks hH hS (lv_sub hl [3, 4, 2, 1, 0] rfl) hf
theorem mX1_who {l : Launch} {G : gG} {Rp : gM → gM → Nat → Prop} (hk : rOK Rp) (hJ : JDK l G Rp) {S S2 : gS} {r2 : Option Nat} {C N : Nat} {l0 : Nat} {l1 : Option Nat} (hf : fX1_who l0 l1 S = some (r2, S2, C, N)) : gMet l yX1_who cX1_who 7 (some (.object "CreditBroker$Consumer")) 15 540 G Rp [.ref l0, va_rf l1] S (some (va_rf r2)) S2 C N := by
  refine g_start (by decide) (by simp [lg_sl, va_rf_cat, cat_i, cat_j, cat_r]) (fun p e s m args below meth c ls hc hl hH => ?_)
  have hl : lv_has ls 7 [(0, .ref l0), (1, va_rf l1)] := by simpa [lv_args, va_rf_cat, cat_i, cat_j, cat_r] using hl
  exact wX1_who_b0 hk hJ hc l0 l1 S _ _ ls 0 0 C N (by omega) (by omega) hH va_S.rf (lv_sub hl [0, 1] rfl) hf
end
section
variable {r : Unit} {Sf : gS}
def fX16_becomes (l0 : Nat) (l1 : Int32) (l2 : Int32) (l3 : Int32) (S : gS) : gO Unit :=
  bd (wr S l0 4 1 (.int l1)) fun S1 =>
  bd (wr S1 l0 4 2 (.int l2)) fun S2 =>
  bd (wr S2 l0 4 4 (.int l3)) fun S3 =>
  some ((), S3, 0, 0)
theorem wX16_becomes_b0 (hk : rOK Rp) (hJ : JDK l G Rp) (hc : gC p s m args meth c G RX16 "becomes" cX16_becomes 4 (none)) (l0 : Nat) (l1 : Int32) (l2 : Int32) (l3 : Int32) (S : gS) (H : Heap) (locs : List Loc) (ls : Array Slot) (kc ks C N : Nat) (hkc : kc + C ≤ mc) (hks : ks + N ≤ ms) (hH : hp G Rp S H) (hS : va_S G.2.2.2 s.heap H locs) (hl : lv_has ls 4 [(0, .ref l0), (1, .int l1), (2, .int l2), (3, .int l3)]) (hf : fX16_becomes l0 l1 l2 l3 S = some (r, Sf, C, N)) : W p l e (gR 1 40 mc ms) s m args below meth c H locs kc ks (gQ below G Rp none Sf args s mc ms) (F0 m 0 ls []) := by
  obtain ⟨hx, hb, hr, hlk, hml, hown, hts, hE, hA, hnm⟩ := hc
  have hc : gC p s m args meth c G RX16 "becomes" cX16_becomes 4 (none) := ⟨hx, hb, hr, hlk, hml, hown, hts, hE, hA, hnm⟩
  unfold fX16_becomes at hf
  refine lv_aload_n (pc := 0) hx hb dX16_becomes_0 rfl (lv_at hl 0 rfl) ?_
  refine lv_iload_n (pc := 1) hx hb dX16_becomes_1 rfl (lv_at hl 1 rfl) ?_
  obtain ⟨S1, e1, hf⟩ := bdo hf
  refine g_put (pc := 2) (o := (some l0)) (a := l0) (ci := 4) (k := 1) (v := .int l1) (C := RX16) (T := TX16) (N := 6) (ty := .int) hx hb hts hown hE hk hH hS rfl in_X16 tyX16_ok nmX16 rfl (by decide) (hts _ q1713) (fun _ h9 => h9) rfl rfl rfl rfl rfl e1 dX16_becomes_2 (fun H locs hH hS => ?_)
  refine lv_aload_n (pc := 5) hx hb dX16_becomes_5 rfl (lv_at hl 0 rfl) ?_
  refine lv_iload_n (pc := 6) hx hb dX16_becomes_6 rfl (lv_at hl 2 rfl) ?_
  obtain ⟨S2, e2, hf⟩ := bdo hf
  refine g_put (pc := 7) (o := (some l0)) (a := l0) (ci := 4) (k := 2) (v := .int l2) (C := RX16) (T := TX16) (N := 6) (ty := .int) hx hb hts hown hE hk hH hS rfl in_X16 tyX16_ok nmX16 rfl (by decide) (hts _ q1717) (fun _ h9 => h9) rfl rfl rfl rfl rfl e2 dX16_becomes_7 (fun H locs hH hS => ?_)
  refine lv_aload_n (pc := 10) hx hb dX16_becomes_10 rfl (lv_at hl 0 rfl) ?_
  refine lv_iload_n (pc := 11) hx hb dX16_becomes_11 rfl (lv_at hl 3 rfl) ?_
  obtain ⟨S3, e3, hf⟩ := bdo hf
  refine g_put (pc := 12) (o := (some l0)) (a := l0) (ci := 4) (k := 4) (v := .int l3) (C := RX16) (T := TX16) (N := 6) (ty := .int) hx hb hts hown hE hk hH hS rfl in_X16 tyX16_ok nmX16 rfl (by decide) (hts _ q1725) (fun _ h9 => h9) rfl rfl rfl rfl rfl e3 dX16_becomes_12 (fun H locs hH hS => ?_)
  exact g_vret (pc := 15) hx hb hr hlk hH hS hkc hks hf dX16_becomes_15
theorem mX16_becomes {l : Launch} {G : gG} {Rp : gM → gM → Nat → Prop} (hk : rOK Rp) (hJ : JDK l G Rp) {S S2 : gS} {r2 : Unit} {C N : Nat} {l0 : Nat} {l1 : Int32} {l2 : Int32} {l3 : Int32} (hf : fX16_becomes l0 l1 l2 l3 S = some (r2, S2, C, N)) : gMet l yX16_becomes cX16_becomes 4 (none) 1 40 G Rp [.ref l0, .int l1, .int l2, .int l3] S none S2 C N := by
  refine g_start (by decide) (Nat.le_of_ble_eq_true rfl) (fun p e s m args below meth c ls hc hl hH => ?_)
  have hl : lv_has ls 4 [(0, .ref l0), (1, .int l1), (2, .int l2), (3, .int l3)] := hl
  exact wX16_becomes_b0 hk hJ hc l0 l1 l2 l3 S _ _ ls 0 0 C N (by omega) (by omega) hH va_S.rf (lv_sub hl [0, 1, 2, 3] rfl) hf
end
section
variable {r : Int32} {Sf : gS}
def fX1_gives (l0 : Nat) (l1 : Option Nat) (S : gS) : gO Int32 :=
  bd l1 fun a2 =>
  bd (chk S a2 3) fun _ =>
  gb (fX8_next a2 S) fun v1 S1 =>
  bd (chk S1 l0 1) fun _ =>
  gb (fX1_who l0 l1 S1) fun v3 S3 =>
  if v1 = none then
    some (-1, S3, 0, 0)
  else
    if v3 = none then
      some (-1, S3, 0, 0)
    else
      bd (rdI S3 l0 1 5) fun v6 =>
      bd (rdI S3 a2 3 4) fun v7 =>
      bd v3 fun a8 =>
      bd (rdI S3 a8 6 0) fun v9 =>
      bd v1 fun a11 =>
      bd (chk S3 a11 4) fun _ =>
      gb (fX16_becomes a11 (nI 2) (v6 + v7) v9 S3) fun _ S10 =>
      bd (rdI S10 a8 6 2) fun v12 =>
      bd (wr S10 a8 6 2 (.int (v12 - (nI 1)))) fun S13 =>
      bd (rdI S13 a8 6 3) fun v14 =>
      bd (wr S13 a8 6 3 (.int (v14 + (nI 1)))) fun S15 =>
      bd (rdI S15 a8 6 0) fun v16 =>
      bd (wr S15 a2 3 9 (.int v16)) fun S17 =>
      bd (rdI S17 a2 3 10) fun v18 =>
      bd (wr S17 a2 3 10 (.int (v18 + (nI 1)))) fun S19 =>
      bd (rdR S19 a11 4 0) fun v20 =>
      bd v20 fun a21 =>
      bd (rdI S19 a21 5 0) fun v22 =>
      some (v22, S19, 0, 0)
theorem wX1_gives_b0 (hk : rOK Rp) (hJ : JDK l G Rp) (hc : gC p s m args meth c G RX1 "gives" cX1_gives 4 (some .int)) (l0 : Nat) (l1 : Option Nat) (S : gS) (H : Heap) (locs : List Loc) (ls : Array Slot) (kc ks C N : Nat) (hkc : kc + C ≤ mc) (hks : ks + N ≤ ms) (hH : hp G Rp S H) (hS : va_S G.2.2.2 s.heap H locs) (hl : lv_has ls 4 [(0, .ref l0), (1, va_rf l1)]) (hf : fX1_gives l0 l1 S = some (r, Sf, C, N)) : W p l e (gR 16 566 mc ms) s m args below meth c H locs kc ks (gQ below G Rp (some (.int r)) Sf args s mc ms) (F0 m 0 ls []) := by
  obtain ⟨hx, hb, hr, hlk, hml, hown, hts, hE, hA, hnm⟩ := hc
  have hc : gC p s m args meth c G RX1 "gives" cX1_gives 4 (some .int) := ⟨hx, hb, hr, hlk, hml, hown, hts, hE, hA, hnm⟩
  unfold fX1_gives at hf
  refine g_aload_n (pc := 0) (o := l1) hx hb dX1_gives_0 rfl (lv_at hl 1 rfl) ?_
  obtain ⟨a2, ea2, hf⟩ := bdo hf
  obtain ⟨_, ek1, hf⟩ := bdo hf
  obtain ⟨v1, S1, c1, n1, c2_1, n2_1, e1, hf, hC1, hN1⟩ := gbo hf
  refine g_callV (pc := 1) (o := l1) (b := a2) (As := []) (rest := []) (st1 := [va_rf v1]) hc (mX8_next hk hJ (l0 := a2) e1) (cwV 0 hts (lw_V q1753 q1754 q1755 q131 q1756) rfl rfl rfl hdX8_next ⟨Nat.le_of_ble_eq_true rfl, Nat.le_of_ble_eq_true rfl⟩) (g_recv hE hk hH (ci := 3) (q := (RX8, TX8, 13)) rfl (chk_o ek1).choose_spec) ea2 rfl hl.1 rfl rfl (lv_room (Nat.le_of_ble_eq_true rfl)) dX1_gives_1 hH hS (by omega) (by omega) (fun H locs hH hS => ?_)
  have hkc : kc + c1 + c2_1 ≤ mc := by omega
  have hks : ks + n1 + n2_1 ≤ ms := by omega
  refine g_astore_n (pc := 4) (i := 2) (o := v1) (lv' := [(2, va_rf v1), (0, .ref l0), (1, va_rf l1)]) hx hb dX1_gives_4 rfl hl (by decide) (by simp [va_rf_cat, cat_i, cat_j, cat_r] <;> rfl) (fun ls hl => ?_)
  refine lv_aload_n (pc := 5) hx hb dX1_gives_5 rfl (lv_at hl 1 rfl) ?_
  refine g_aload_n (pc := 6) (o := l1) hx hb dX1_gives_6 rfl (lv_at hl 2 rfl) ?_
  obtain ⟨_, ek3, hf⟩ := bdo hf
  obtain ⟨v3, S3, c3, n3, c2_3, n2_3, e3, hf, hC3, hN3⟩ := gbo hf
  refine g_callV (pc := 7) (o := (some l0)) (b := l0) (As := [va_rf l1]) (rest := []) (st1 := [va_rf v3]) hc (mX1_who hk hJ (l0 := l0) (l1 := l1) e3) (cwV 1 hts (lw_V q1763 q1764 q1765 q98 q1766) rfl rfl rfl hdX1_who ⟨Nat.le_of_ble_eq_true rfl, Nat.le_of_ble_eq_true rfl⟩) (g_recv hE hk hH (ci := 1) (q := (RX1, TX1, 7)) rfl (chk_o ek3).choose_spec) rfl rfl hl.1 rfl rfl (lv_room (Nat.le_of_ble_eq_true rfl)) dX1_gives_7 hH hS (by omega) (by omega) (fun H locs hH hS => ?_)
  have hkc : kc + c1 + c3 + c2_3 ≤ mc := by omega
  have hks : ks + n1 + n3 + n2_3 ≤ ms := by omega
  refine g_astore_n (pc := 10) (i := 3) (o := v3) (lv' := [(3, va_rf v3), (2, va_rf v1), (0, .ref l0), (1, va_rf l1)]) hx hb dX1_gives_10 rfl hl (by decide) (by simp [va_rf_cat, cat_i, cat_j, cat_r] <;> rfl) (fun ls hl => ?_)
  refine g_aload_n (pc := 11) (o := v1) hx hb dX1_gives_11 rfl (lv_at hl 1 rfl) ?_
  refine g_ifnull (pc := 12) (o := v1) (tgt := 19) hx hb dX1_gives_12 (by decide) (fun c4 => ?_) (fun c4 => ?_)
  · rw [if_pos c4] at hf
    refine lv_iconst (pc := 19) (v := -1) hx hb dX1_gives_19 rfl ?_
    exact g_iret (pc := 20) hx hb hr hlk hH hS hkc hks hf dX1_gives_20
  · rw [if_neg c4] at hf
    refine g_aload_n (pc := 15) (o := v3) hx hb dX1_gives_15 rfl (lv_at hl 0 rfl) ?_
    refine g_ifnonnull (pc := 16) (o := v3) (tgt := 21) hx hb dX1_gives_16 (by decide) (fun c5 => ?_) (fun c5 => ?_)
    · rw [if_neg c5] at hf
      refine g_aload_n (pc := 21) (o := v1) hx hb dX1_gives_21 rfl (lv_at hl 1 rfl) ?_
      refine lv_iconst (pc := 22) (v := nI 2) hx hb dX1_gives_22 rfl ?_
      refine lv_aload_n (pc := 23) hx hb dX1_gives_23 rfl (lv_at hl 2 rfl) ?_
      obtain ⟨v6, e6, hf⟩ := bdo hf
      refine g_get (pc := 24) (o := (some l0)) (a := l0) (ci := 1) (k := 5) (v := .int v6) (C := RX1) (T := TX1) (N := 7) hx hb hts hown hE hk hH in_X1 rfl (by decide) (hts _ q241) (fun _ h9 => h9) rfl (rdI_o e6) dX1_gives_24 ?_
      refine g_aload_n (pc := 27) (o := l1) hx hb dX1_gives_27 rfl (lv_at hl 3 rfl) ?_
      obtain ⟨v7, e7, hf⟩ := bdo hf
      refine g_get (pc := 28) (o := l1) (a := a2) (ci := 3) (k := 4) (v := .int v7) (C := RX8) (T := TX8) (N := 13) hx hb hts hown hE hk hH in_X8 rfl (by decide) (hts _ q1161) (fun _ h9 => h9) ea2 (rdI_o e7) dX1_gives_28 ?_
      refine lv_iadd (pc := 31) hx hb dX1_gives_31 ?_
      refine g_aload_n (pc := 32) (o := v3) hx hb dX1_gives_32 rfl (lv_at hl 0 rfl) ?_
      obtain ⟨a8, ea8, hf⟩ := bdo hf
      obtain ⟨v9, e9, hf⟩ := bdo hf
      refine g_get (pc := 33) (o := v3) (a := a8) (ci := 6) (k := 0) (v := .int v9) (C := RX10) (T := TX10) (N := 5) hx hb hts hown hE hk hH in_X10 rfl (by decide) (hts _ q1245) (fun _ h9 => h9) ea8 (rdI_o e9) dX1_gives_33 ?_
      obtain ⟨a11, ea11, hf⟩ := bdo hf
      obtain ⟨_, ek10, hf⟩ := bdo hf
      obtain ⟨_, S10, c10, n10, c2_10, n2_10, e10, hf, hC10, hN10⟩ := gbo hf
      refine g_callV (pc := 36) (o := v1) (b := a11) (As := [.int (nI 2), .int (v6 + v7), .int v9]) (rest := []) (st1 := []) hc (mX16_becomes hk hJ (l0 := a11) (l1 := (nI 2)) (l2 := (v6 + v7)) (l3 := v9) e10) (cwV 3 hts (lw_V q1772 q1522 q1523 q144 q1524) rfl rfl rfl hdX16_becomes ⟨Nat.le_of_ble_eq_true rfl, Nat.le_of_ble_eq_true rfl⟩) (g_recv hE hk hH (ci := 4) (q := (RX16, TX16, 6)) rfl (chk_o ek10).choose_spec) ea11 rfl hl.1 rfl rfl (lv_room (Nat.le_of_ble_eq_true rfl)) dX1_gives_36 hH hS (by omega) (by omega) (fun H locs hH hS => ?_)
      have hkc : kc + c1 + c3 + c10 + c2_10 ≤ mc := by omega
      have hks : ks + n1 + n3 + n10 + n2_10 ≤ ms := by omega
      refine g_aload_n (pc := 39) (o := v3) hx hb dX1_gives_39 rfl (lv_at hl 0 rfl) ?_
      refine lv_dup (pc := 40) hx hb dX1_gives_40 (va_rf_cat _) ?_
      obtain ⟨v12, e12, hf⟩ := bdo hf
      refine g_get (pc := 41) (o := v3) (a := a8) (ci := 6) (k := 2) (v := .int v12) (C := RX10) (T := TX10) (N := 5) hx hb hts hown hE hk hH in_X10 rfl (by decide) (hts _ q1251) (fun _ h9 => h9) ea8 (rdI_o e12) dX1_gives_41 ?_
      refine lv_iconst (pc := 44) (v := nI 1) hx hb dX1_gives_44 rfl ?_
      refine lv_isub (pc := 45) hx hb dX1_gives_45 ?_
      obtain ⟨S13, e13, hf⟩ := bdo hf
      refine g_put (pc := 46) (o := v3) (a := a8) (ci := 6) (k := 2) (v := .int (v12 - (nI 1))) (C := RX10) (T := TX10) (N := 5) (ty := .int) hx hb hts hown hE hk hH hS rfl in_X10 tyX10_ok nmX10 rfl (by decide) (hts _ q1251) (fun _ h9 => h9) rfl rfl rfl rfl ea8 e13 dX1_gives_46 (fun H locs hH hS => ?_)
      refine g_aload_n (pc := 49) (o := v3) hx hb dX1_gives_49 rfl (lv_at hl 0 rfl) ?_
      refine lv_dup (pc := 50) hx hb dX1_gives_50 (va_rf_cat _) ?_
      obtain ⟨v14, e14, hf⟩ := bdo hf
      refine g_get (pc := 51) (o := v3) (a := a8) (ci := 6) (k := 3) (v := .int v14) (C := RX10) (T := TX10) (N := 5) hx hb hts hown hE hk hH in_X10 rfl (by decide) (hts _ q1254) (fun _ h9 => h9) ea8 (rdI_o e14) dX1_gives_51 ?_
      refine lv_iconst (pc := 54) (v := nI 1) hx hb dX1_gives_54 rfl ?_
      refine lv_iadd (pc := 55) hx hb dX1_gives_55 ?_
      obtain ⟨S15, e15, hf⟩ := bdo hf
      refine g_put (pc := 56) (o := v3) (a := a8) (ci := 6) (k := 3) (v := .int (v14 + (nI 1))) (C := RX10) (T := TX10) (N := 5) (ty := .int) hx hb hts hown hE hk hH hS rfl in_X10 tyX10_ok nmX10 rfl (by decide) (hts _ q1254) (fun _ h9 => h9) rfl rfl rfl rfl ea8 e15 dX1_gives_56 (fun H locs hH hS => ?_)
      refine g_aload_n (pc := 59) (o := l1) hx hb dX1_gives_59 rfl (lv_at hl 3 rfl) ?_
      refine g_aload_n (pc := 60) (o := v3) hx hb dX1_gives_60 rfl (lv_at hl 0 rfl) ?_
      obtain ⟨v16, e16, hf⟩ := bdo hf
      refine g_get (pc := 61) (o := v3) (a := a8) (ci := 6) (k := 0) (v := .int v16) (C := RX10) (T := TX10) (N := 5) hx hb hts hown hE hk hH in_X10 rfl (by decide) (hts _ q1245) (fun _ h9 => h9) ea8 (rdI_o e16) dX1_gives_61 ?_
      obtain ⟨S17, e17, hf⟩ := bdo hf
      refine g_put (pc := 64) (o := l1) (a := a2) (ci := 3) (k := 9) (v := .int v16) (C := RX8) (T := TX8) (N := 13) (ty := .int) hx hb hts hown hE hk hH hS rfl in_X8 tyX8_ok nmX8 rfl (by decide) (hts _ q1172) (fun _ h9 => h9) rfl rfl rfl rfl ea2 e17 dX1_gives_64 (fun H locs hH hS => ?_)
      refine g_aload_n (pc := 67) (o := l1) hx hb dX1_gives_67 rfl (lv_at hl 3 rfl) ?_
      refine lv_dup (pc := 68) hx hb dX1_gives_68 (va_rf_cat _) ?_
      obtain ⟨v18, e18, hf⟩ := bdo hf
      refine g_get (pc := 69) (o := l1) (a := a2) (ci := 3) (k := 10) (v := .int v18) (C := RX8) (T := TX8) (N := 13) hx hb hts hown hE hk hH in_X8 rfl (by decide) (hts _ q1174) (fun _ h9 => h9) ea2 (rdI_o e18) dX1_gives_69 ?_
      refine lv_iconst (pc := 72) (v := nI 1) hx hb dX1_gives_72 rfl ?_
      refine lv_iadd (pc := 73) hx hb dX1_gives_73 ?_
      obtain ⟨S19, e19, hf⟩ := bdo hf
      refine g_put (pc := 74) (o := l1) (a := a2) (ci := 3) (k := 10) (v := .int (v18 + (nI 1))) (C := RX8) (T := TX8) (N := 13) (ty := .int) hx hb hts hown hE hk hH hS rfl in_X8 tyX8_ok nmX8 rfl (by decide) (hts _ q1174) (fun _ h9 => h9) rfl rfl rfl rfl ea2 e19 dX1_gives_74 (fun H locs hH hS => ?_)
      refine g_aload_n (pc := 77) (o := v1) hx hb dX1_gives_77 rfl (lv_at hl 1 rfl) ?_
      obtain ⟨v20, e20, hf⟩ := bdo hf
      refine g_get (pc := 78) (o := v1) (a := a11) (ci := 4) (k := 0) (v := va_rf v20) (C := RX16) (T := TX16) (N := 6) hx hb hts hown hE hk hH in_X16 rfl (by decide) (hts _ q1710) (fun _ h9 => h9) ea11 (rdR_o e20) dX1_gives_78 ?_
      obtain ⟨a21, ea21, hf⟩ := bdo hf
      obtain ⟨v22, e22, hf⟩ := bdo hf
      refine g_get (pc := 81) (o := v20) (a := a21) (ci := 5) (k := 0) (v := .int v22) (C := RX11) (T := TX11) (N := 6) hx hb hts hown hE hk hH in_X11 rfl (by decide) (hts _ q1547) (fun _ h9 => h9) ea21 (rdI_o e22) dX1_gives_81 ?_
      exact g_iret (pc := 84) hx hb hr hlk hH hS hkc hks hf dX1_gives_84
    · rw [if_pos c5] at hf
      refine lv_iconst (pc := 19) (v := -1) hx hb dX1_gives_19 rfl ?_
      exact g_iret (pc := 20) hx hb hr hlk hH hS hkc hks hf dX1_gives_20
theorem mX1_gives {l : Launch} {G : gG} {Rp : gM → gM → Nat → Prop} (hk : rOK Rp) (hJ : JDK l G Rp) {S S2 : gS} {r2 : Int32} {C N : Nat} {l0 : Nat} {l1 : Option Nat} (hf : fX1_gives l0 l1 S = some (r2, S2, C, N)) : gMet l yX1_gives cX1_gives 4 (some .int) 16 566 G Rp [.ref l0, va_rf l1] S (some (.int r2)) S2 C N := by
  refine g_start (by decide) (by simp [lg_sl, va_rf_cat, cat_i, cat_j, cat_r]) (fun p e s m args below meth c ls hc hl hH => ?_)
  have hl : lv_has ls 4 [(0, .ref l0), (1, va_rf l1)] := by simpa [lv_args, va_rf_cat, cat_i, cat_j, cat_r] using hl
  exact wX1_gives_b0 hk hJ hc l0 l1 S _ _ ls 0 0 C N (by omega) (by omega) hH va_S.rf (lv_sub hl [0, 1] rfl) hf
end
section
variable {r : Option Nat} {Sf : gS}
def fX8_get_b5 (G : gG) : Nat → Nat → Int32 → (Option Nat) → Int32 → Int32 → gS → gO (Option Nat)
  | 0, _, _, _, _, _, _ => none
  | n + 1, l0, l1, l2, l3, l4, S =>
    bd (rdR S l0 3 7) fun v1 =>
    bd v1 fun a3 =>
    gb (nAL_size a3  S) fun v2 S2 =>
    if v2 ≤ l4 then
      some (none, S2, 0, 0)
    else
      bd (rdR S2 l0 3 7) fun v5 =>
      bd v5 fun a7 =>
      gb (nAL_get a7 l4 S2) fun v6 S6 =>
      bd (ckc S6 v6 4) fun _ =>
      bd l2 fun a10 =>
      gb (fdis G a10 v6 S6) fun v9 S9 =>
      if v9 = 0 then
        fX8_get_b5 G n l0 l1 l2 l3 (l4 + (nI 1)) S9
      else
        if l3 = l1 then
          bd (rdR S9 l0 3 7) fun v13 =>
          bd v13 fun a15 =>
          gb (nAL_get a15 l4 S9) fun v14 S14 =>
          bd (ckc S14 v14 4) fun _ =>
          some (v14, S14, 0, 0)
        else
          fX8_get_b5 G n l0 l1 l2 (l3 + (nI 1)) (l4 + (nI 1)) S9
theorem wX8_get_b5 (hk : rOK Rp) (hJ : JDK l G Rp) (hc : gC p s m args meth c G RX8 "get" cX8_get 5 (some (.object "CreditBroker$Letter"))) : ∀ (n : Nat) (l0 : Nat) (l1 : Int32) (l2 : Option Nat) (l3 : Int32) (l4 : Int32) (S : gS) (H : Heap) (locs : List Loc) (ls : Array Slot) (kc ks C N : Nat), kc + C ≤ mc → ks + N ≤ ms → hp G Rp S H → va_S G.2.2.2 s.heap H locs → lv_has ls 5 [(0, .ref l0), (1, .int l1), (2, va_rf l2), (3, .int l3), (4, .int l4)] → fX8_get_b5 G n l0 l1 l2 l3 l4 S = some (r, Sf, C, N) → W p l e (gR 15 540 mc ms) s m args below meth c H locs kc ks (gQ below G Rp (some (va_rf r)) Sf args s mc ms) (F0 m 5 ls []) := by
  obtain ⟨hx, hb, hr, hlk, hml, hown, hts, hE, hA, hnm⟩ := hc
  have hc : gC p s m args meth c G RX8 "get" cX8_get 5 (some (.object "CreditBroker$Letter")) := ⟨hx, hb, hr, hlk, hml, hown, hts, hE, hA, hnm⟩
  intro n
  induction n with
  | zero => intro l0 l1 l2 l3 l4 S H locs ls kc ks C N _ _ _ _ _ hf; exact absurd hf (fun h => by cases h)
  | succ n ih =>
    intro l0 l1 l2 l3 l4 S H locs ls kc ks C N hkc hks hH hS hl hf
    rw [fX8_get_b5] at hf
    refine lv_iload (pc := 5) hx hb dX8_get_5 (lv_at hl 4 rfl) ?_
    refine lv_aload_n (pc := 7) hx hb dX8_get_7 rfl (lv_at hl 0 rfl) ?_
    obtain ⟨v1, e1, hf⟩ := bdo hf
    refine g_get (pc := 8) (o := (some l0)) (a := l0) (ci := 3) (k := 7) (v := va_rf v1) (C := RX8) (T := TX8) (N := 13) hx hb hts hown hE hk hH in_X8 rfl (by decide) (hts _ q1167) (fun _ h9 => h9) rfl (rdR_o e1) dX8_get_8 ?_
    obtain ⟨a3, ea3, hf⟩ := bdo hf
    obtain ⟨v2, S2, c2, n2, c2_2, n2_2, e2, hf, hC2, hN2⟩ := gbo hf
    refine g_callV (pc := 11) (o := v1) (b := a3) (As := []) (rest := [.int l4]) (st1 := [.int v2, .int l4]) hc (j_nAL_size hJ a3  S v2 S2 c2 n2 e2) (cwV 0 hts (lw_V q1605 q1120 q1121 q101 q1122) rfl rfl rfl hdJ2_size ⟨Nat.le_of_ble_eq_true rfl, Nat.le_of_ble_eq_true rfl⟩) (j_recv hJ _ _ _ _ 0 _ _ hE hH hS (adtR (t := 0) (show bd _ _ = some _ from e2)).choose_spec) ea3 rfl hl.1 rfl rfl (lv_room (Nat.le_of_ble_eq_true rfl)) dX8_get_11 hH hS (by omega) (by omega) (fun H locs hH hS => ?_)
    have hkc : kc + c2 + c2_2 ≤ mc := by omega
    have hks : ks + n2 + n2_2 ≤ ms := by omega
    refine lv_icmp_ge (pc := 14) (tgt := 65) hx hb dX8_get_14 (by decide) (fun c4 => ?_) (fun c4 => ?_)
    · rw [if_pos c4] at hf
      refine lv_null (pc := 65) hx hb dX8_get_65 ?_
      exact g_aret (pc := 66) (v := none) hx hb hr (Or.inl ⟨_, rfl⟩) hlk hH hS hkc hks hf dX8_get_66
    · rw [if_neg c4] at hf
      refine g_aload_n (pc := 17) (o := l2) hx hb dX8_get_17 rfl (lv_at hl 2 rfl) ?_
      refine lv_aload_n (pc := 18) hx hb dX8_get_18 rfl (lv_at hl 0 rfl) ?_
      obtain ⟨v5, e5, hf⟩ := bdo hf
      refine g_get (pc := 19) (o := (some l0)) (a := l0) (ci := 3) (k := 7) (v := va_rf v5) (C := RX8) (T := TX8) (N := 13) hx hb hts hown hE hk hH in_X8 rfl (by decide) (hts _ q1167) (fun _ h9 => h9) rfl (rdR_o e5) dX8_get_19 ?_
      refine lv_iload (pc := 22) hx hb dX8_get_22 (lv_at hl 4 rfl) ?_
      obtain ⟨a7, ea7, hf⟩ := bdo hf
      obtain ⟨v6, S6, c6, n6, c2_6, n2_6, e6, hf, hC6, hN6⟩ := gbo hf
      refine g_callV (pc := 24) (o := v5) (b := a7) (As := [.int l4]) (rest := [va_rf l2]) (st1 := [va_rf v6, va_rf l2]) hc (j_nAL_get hJ a7 l4 S2 v6 S6 c6 n6 e6) (cwV 1 hts (lw_V q1757 q1223 q1224 q101 q1225) rfl rfl rfl hdJ2_get ⟨Nat.le_of_ble_eq_true rfl, Nat.le_of_ble_eq_true rfl⟩) (j_recv hJ _ _ _ _ 0 _ _ hE hH hS (adtR (t := 0) (show bd _ _ = some _ from e6)).choose_spec) ea7 rfl hl.1 rfl rfl (lv_room (by simp [va_rf_cat, cat_i, cat_j, cat_r])) dX8_get_24 hH hS (by omega) (by omega) (fun H locs hH hS => ?_)
      have hkc : kc + c2 + c6 + c2_6 ≤ mc := by omega
      have hks : ks + n2 + n6 + n2_6 ≤ ms := by omega
      obtain ⟨_, e8, hf⟩ := bdo hf
      refine g_cast (pc := 27) (o := v6) (ci := 4) (C := RX16) (T := TX16) (N := 6) hx hb hts hown hE hk hH rfl q1758 e8 dX8_get_27 ?_
      obtain ⟨a10, ea10, hf⟩ := bdo hf
      obtain ⟨v9, S9, c9, n9, c2_9, n2_9, e9, hf, hC9, hN9⟩ := gbo hf
      refine gP_is (pc := 30) (o := l2) (b := a10) (x0 := v6) (rest := []) (st1 := [.int v9]) hc hk hJ e9 q1861 (Nat.le_of_ble_eq_true rfl) (Nat.le_of_ble_eq_true rfl) ea10 hl.1 rfl rfl (lv_room (Nat.le_of_ble_eq_true rfl)) dX8_get_30 hH hS (by omega) (by omega) (fun H locs hH hS => ?_)
      have hkc : kc + c2 + c6 + c9 + c2_9 ≤ mc := by omega
      have hks : ks + n2 + n6 + n9 + n2_9 ≤ ms := by omega
      refine lv_if_eq (pc := 35) (tgt := 59) hx hb dX8_get_35 (by decide) (fun c11 => ?_) (fun c11 => ?_)
      · rw [if_pos c11] at hf
        refine lv_iinc (pc := 59) (v := l4 + (nI 1)) (lv' := [(4, .int (l4 + (nI 1))), (0, .ref l0), (1, .int l1), (2, va_rf l2), (3, .int l3)]) hx hb dX8_get_59 hl (k := 4) rfl rfl (by decide) rfl (fun ls hl => ?_)
        refine lv_goto (pc := 62) (tgt := 5) hx hb dX8_get_62 (by decide) ?_
        exact ih l0 l1 l2 l3 (l4 + (nI 1)) S9 _ _ ls _ _ _ _ hkc hks hH hS (lv_sub hl [1, 2, 3, 4, 0] rfl) hf
      · rw [if_neg c11] at hf
        refine lv_iload_n (pc := 38) hx hb dX8_get_38 rfl (lv_at hl 3 rfl) ?_
        refine lv_iload_n (pc := 39) hx hb dX8_get_39 rfl (lv_at hl 1 rfl) ?_
        refine lv_icmp_ne (pc := 40) (tgt := 56) hx hb dX8_get_40 (by decide) (fun c12 => ?_) (fun c12 => ?_)
        · rw [if_neg c12] at hf
          refine lv_iinc (pc := 56) (v := l3 + (nI 1)) (lv' := [(3, .int (l3 + (nI 1))), (0, .ref l0), (1, .int l1), (2, va_rf l2), (4, .int l4)]) hx hb dX8_get_56 hl (k := 3) rfl rfl (by decide) (by simp [va_rf_cat, cat_i, cat_j, cat_r] <;> rfl) (fun ls hl => ?_)
          refine lv_iinc (pc := 59) (v := l4 + (nI 1)) (lv' := [(4, .int (l4 + (nI 1))), (3, .int (l3 + (nI 1))), (0, .ref l0), (1, .int l1), (2, va_rf l2)]) hx hb dX8_get_59 hl (k := 4) rfl rfl (by decide) rfl (fun ls hl => ?_)
          refine lv_goto (pc := 62) (tgt := 5) hx hb dX8_get_62 (by decide) ?_
          exact ih l0 l1 l2 (l3 + (nI 1)) (l4 + (nI 1)) S9 _ _ ls _ _ _ _ hkc hks hH hS (lv_sub hl [2, 3, 4, 1, 0] rfl) hf
        · rw [if_pos c12] at hf
          refine lv_aload_n (pc := 43) hx hb dX8_get_43 rfl (lv_at hl 0 rfl) ?_
          obtain ⟨v13, e13, hf⟩ := bdo hf
          refine g_get (pc := 44) (o := (some l0)) (a := l0) (ci := 3) (k := 7) (v := va_rf v13) (C := RX8) (T := TX8) (N := 13) hx hb hts hown hE hk hH in_X8 rfl (by decide) (hts _ q1167) (fun _ h9 => h9) rfl (rdR_o e13) dX8_get_44 ?_
          refine lv_iload (pc := 47) hx hb dX8_get_47 (lv_at hl 4 rfl) ?_
          obtain ⟨a15, ea15, hf⟩ := bdo hf
          obtain ⟨v14, S14, c14, n14, c2_14, n2_14, e14, hf, hC14, hN14⟩ := gbo hf
          refine g_callV (pc := 49) (o := v13) (b := a15) (As := [.int l4]) (rest := []) (st1 := [va_rf v14]) hc (j_nAL_get hJ a15 l4 S9 v14 S14 c14 n14 e14) (cwV 1 hts (lw_V q1757 q1223 q1224 q101 q1225) rfl rfl rfl hdJ2_get ⟨Nat.le_of_ble_eq_true rfl, Nat.le_of_ble_eq_true rfl⟩) (j_recv hJ _ _ _ _ 0 _ _ hE hH hS (adtR (t := 0) (show bd _ _ = some _ from e14)).choose_spec) ea15 rfl hl.1 rfl rfl (lv_room (Nat.le_of_ble_eq_true rfl)) dX8_get_49 hH hS (by omega) (by omega) (fun H locs hH hS => ?_)
          have hkc : kc + c2 + c6 + c9 + c14 + c2_14 ≤ mc := by omega
          have hks : ks + n2 + n6 + n9 + n14 + n2_14 ≤ ms := by omega
          obtain ⟨_, e16, hf⟩ := bdo hf
          refine g_cast (pc := 52) (o := v14) (ci := 4) (C := RX16) (T := TX16) (N := 6) hx hb hts hown hE hk hH rfl q1758 e16 dX8_get_52 ?_
          exact g_aret (pc := 55) (v := v14) hx hb hr (Or.inl ⟨_, rfl⟩) hlk hH hS hkc hks hf dX8_get_55
def fX8_get (G : gG) (l0 : Nat) (l1 : Int32) (l2 : Option Nat) (S : gS) : gO (Option Nat) :=
  fX8_get_b5 G FU l0 l1 l2 (nI 0) (nI 0) S
theorem wX8_get_b0 (hk : rOK Rp) (hJ : JDK l G Rp) (hc : gC p s m args meth c G RX8 "get" cX8_get 5 (some (.object "CreditBroker$Letter"))) (l0 : Nat) (l1 : Int32) (l2 : Option Nat) (S : gS) (H : Heap) (locs : List Loc) (ls : Array Slot) (kc ks C N : Nat) (hkc : kc + C ≤ mc) (hks : ks + N ≤ ms) (hH : hp G Rp S H) (hS : va_S G.2.2.2 s.heap H locs) (hl : lv_has ls 5 [(0, .ref l0), (1, .int l1), (2, va_rf l2)]) (hf : fX8_get G l0 l1 l2 S = some (r, Sf, C, N)) : W p l e (gR 15 540 mc ms) s m args below meth c H locs kc ks (gQ below G Rp (some (va_rf r)) Sf args s mc ms) (F0 m 0 ls []) := by
  obtain ⟨hx, hb, hr, hlk, hml, hown, hts, hE, hA, hnm⟩ := hc
  have hc : gC p s m args meth c G RX8 "get" cX8_get 5 (some (.object "CreditBroker$Letter")) := ⟨hx, hb, hr, hlk, hml, hown, hts, hE, hA, hnm⟩
  unfold fX8_get at hf
  refine lv_iconst (pc := 0) (v := nI 0) hx hb dX8_get_0 rfl ?_
  refine lv_istore_n (pc := 1) (i := 3) (lv' := [(3, .int (nI 0)), (0, .ref l0), (1, .int l1), (2, va_rf l2)]) hx hb dX8_get_1 rfl hl (by decide) (by simp [va_rf_cat, cat_i, cat_j, cat_r] <;> rfl) (fun ls hl => ?_)
  refine lv_iconst (pc := 2) (v := nI 0) hx hb dX8_get_2 rfl ?_
  refine lv_istore (pc := 3) (i := 4) (lv' := [(4, .int (nI 0)), (3, .int (nI 0)), (0, .ref l0), (1, .int l1), (2, va_rf l2)]) hx hb dX8_get_3 hl (by decide) rfl (fun ls hl => ?_)
  exact wX8_get_b5 hk hJ hc FU l0 l1 l2 (nI 0) (nI 0) S _ _ ls _ _ _ _ hkc hks hH hS (lv_sub hl [2, 3, 4, 1, 0] rfl) hf
theorem mX8_get {l : Launch} {G : gG} {Rp : gM → gM → Nat → Prop} (hk : rOK Rp) (hJ : JDK l G Rp) {S S2 : gS} {r2 : Option Nat} {C N : Nat} {l0 : Nat} {l1 : Int32} {l2 : Option Nat} (hf : fX8_get G l0 l1 l2 S = some (r2, S2, C, N)) : gMet l yX8_get cX8_get 5 (some (.object "CreditBroker$Letter")) 15 540 G Rp [.ref l0, .int l1, va_rf l2] S (some (va_rf r2)) S2 C N := by
  refine g_start (by decide) (by simp [lg_sl, va_rf_cat, cat_i, cat_j, cat_r]) (fun p e s m args below meth c ls hc hl hH => ?_)
  have hl : lv_has ls 5 [(0, .ref l0), (1, .int l1), (2, va_rf l2)] := by simpa [lv_args, va_rf_cat, cat_i, cat_j, cat_r] using hl
  exact wX8_get_b0 hk hJ hc l0 l1 l2 S _ _ ls 0 0 C N (by omega) (by omega) hH va_S.rf (lv_sub hl [0, 1, 2] rfl) hf
end
section
variable {r : Unit} {Sf : gS}
def fX12_init_2_c11 (l0 : Nat) (l1 : Int32) (l2 : Option Nat) (l3 : Int32) (S : gS) : gO Unit :=
  bd (wr S l0 11 0 (.int l1)) fun S2 =>
  bd (wr S2 l0 11 1 (va_rf l2)) fun S3 =>
  bd (wr S3 l0 11 2 (.int l3)) fun S4 =>
  some ((), S4, 0, 0)
theorem wX12_init_2_c11_b0 (hk : rOK Rp) (hJ : JDK l G Rp) (hc : gC p s m args meth c G RX12 "<init>" cX12_init_2 4 (none)) (l0 : Nat) (l1 : Int32) (l2 : Option Nat) (l3 : Int32) (S : gS) (H : Heap) (locs : List Loc) (ls : Array Slot) (kc ks C N : Nat) (hkc : kc + C ≤ mc) (hks : ks + N ≤ ms) (hH : hp G Rp S H) (hS : va_S G.2.2.2 s.heap H locs) (hl : lv_has ls 4 [(0, .ref l0), (1, .int l1), (2, va_rf l2), (3, .int l3)]) (hf : fX12_init_2_c11 l0 l1 l2 l3 S = some (r, Sf, C, N)) : W p l e (gR 1 40 mc ms) s m args below meth c H locs kc ks (gQ below G Rp none Sf args s mc ms) (F0 m 0 ls []) := by
  obtain ⟨hx, hb, hr, hlk, hml, hown, hts, hE, hA, hnm⟩ := hc
  have hc : gC p s m args meth c G RX12 "<init>" cX12_init_2 4 (none) := ⟨hx, hb, hr, hlk, hml, hown, hts, hE, hA, hnm⟩
  unfold fX12_init_2_c11 at hf
  refine lv_aload_n (pc := 0) hx hb dX12_init_2_0 rfl (lv_at hl 0 rfl) ?_
  refine W.objInit  hx hb hown (hts _ q1620) (hts _ q169) (hts _ q170) rfl (by rw [hml]; exact hl.1) rfl dX12_init_2_1 (Nat.le_of_ble_eq_true rfl) (Nat.le_of_ble_eq_true rfl) ?_
  refine W.eq (g2 := F0 m 4 ls []) rfl ?_
  refine lv_aload_n (pc := 4) hx hb dX12_init_2_4 rfl (lv_at hl 0 rfl) ?_
  refine lv_iload_n (pc := 5) hx hb dX12_init_2_5 rfl (lv_at hl 1 rfl) ?_
  obtain ⟨S2, e2, hf⟩ := bdo hf
  refine g_putF (pc := 6) (o := (some l0)) (a := l0) (ci := 11) (k := 0) (v := .int l1) (C := RX18) (T := TX18) (N := 5) (ty := .int) hx hb hts hown hE hk hH hS rfl in_X18 tyX18_ok nmX18 rfl (by decide) (hts _ q1623) (fun _ h9 => h9) rfl hnm rfl rfl rfl rfl rfl e2 dX12_init_2_6 (fun H locs hH hS => ?_)
  refine lv_aload_n (pc := 9) hx hb dX12_init_2_9 rfl (lv_at hl 0 rfl) ?_
  refine g_aload_n (pc := 10) (o := l2) hx hb dX12_init_2_10 rfl (lv_at hl 2 rfl) ?_
  obtain ⟨S3, e3, hf⟩ := bdo hf
  refine g_putF (pc := 11) (o := (some l0)) (a := l0) (ci := 11) (k := 1) (v := va_rf l2) (C := RX18) (T := TX18) (N := 5) (ty := .object "CreditBroker$Cause") hx hb hts hown hE hk hH hS rfl in_X18 tyX18_ok nmX18 rfl (by decide) (hts _ q1625) (fun _ h9 => h9) rfl hnm rfl rfl (nar_rf _ _) (fit_rf _ _) rfl e3 dX12_init_2_11 (fun H locs hH hS => ?_)
  refine lv_aload_n (pc := 14) hx hb dX12_init_2_14 rfl (lv_at hl 0 rfl) ?_
  refine lv_iload_n (pc := 15) hx hb dX12_init_2_15 rfl (lv_at hl 3 rfl) ?_
  obtain ⟨S4, e4, hf⟩ := bdo hf
  refine g_putF (pc := 16) (o := (some l0)) (a := l0) (ci := 11) (k := 2) (v := .int l3) (C := RX18) (T := TX18) (N := 5) (ty := .int) hx hb hts hown hE hk hH hS rfl in_X18 tyX18_ok nmX18 rfl (by decide) (hts _ q1628) (fun _ h9 => h9) rfl hnm rfl rfl rfl rfl rfl e4 dX12_init_2_16 (fun H locs hH hS => ?_)
  exact g_vret (pc := 19) hx hb hr hlk hH hS hkc hks hf dX12_init_2_19
theorem mX12_init_2_c11 {l : Launch} {G : gG} {Rp : gM → gM → Nat → Prop} (hk : rOK Rp) (hJ : JDK l G Rp) {S S2 : gS} {r2 : Unit} {C N : Nat} {l0 : Nat} {l1 : Int32} {l2 : Option Nat} {l3 : Int32} (hf : fX12_init_2_c11 l0 l1 l2 l3 S = some (r2, S2, C, N)) : gMet l yX12_init_2 cX12_init_2 4 (none) 1 40 G Rp [.ref l0, .int l1, va_rf l2, .int l3] S none S2 C N := by
  refine g_start (by decide) (by simp [lg_sl, va_rf_cat, cat_i, cat_j, cat_r]) (fun p e s m args below meth c ls hc hl hH => ?_)
  have hl : lv_has ls 4 [(0, .ref l0), (1, .int l1), (2, va_rf l2), (3, .int l3)] := by simpa [lv_args, va_rf_cat, cat_i, cat_j, cat_r] using hl
  exact wX12_init_2_c11_b0 hk hJ hc l0 l1 l2 l3 S _ _ ls 0 0 C N (by omega) (by omega) hH va_S.rf (lv_sub hl [0, 1, 2, 3] rfl) hf
end
section
variable {r : Unit} {Sf : gS}
def fX12_init_c11_b17 (t0 : Nat) (t1 : Int32) (t2 : Option Nat) (t3 : Int32) (S : gS) : gO Unit :=
  gb (fX12_init_2_c11 t0 t1 t2 t3 S) fun _ S1 =>
  some ((), S1, 0, 0)
theorem wX12_init_c11_b17 (hk : rOK Rp) (hJ : JDK l G Rp) (hc : gC p s m args meth c G RX12 "<init>" cX12_init 3 (none)) (t0 : Nat) (t1 : Int32) (t2 : Option Nat) (t3 : Int32) (S : gS) (H : Heap) (locs : List Loc) (ls : Array Slot) (kc ks C N : Nat) (hkc : kc + C ≤ mc) (hks : ks + N ≤ ms) (hH : hp G Rp S H) (hS : va_S G.2.2.2 s.heap H locs) (hl : lv_has ls 3 []) (hf : fX12_init_c11_b17 t0 t1 t2 t3 S = some (r, Sf, C, N)) : W p l e (gR 2 63 mc ms) s m args below meth c H locs kc ks (gQ below G Rp none Sf args s mc ms) (F0 m 17 ls [.int t3, va_rf t2, .int t1, .ref t0]) := by
  obtain ⟨hx, hb, hr, hlk, hml, hown, hts, hE, hA, hnm⟩ := hc
  have hc : gC p s m args meth c G RX12 "<init>" cX12_init 3 (none) := ⟨hx, hb, hr, hlk, hml, hown, hts, hE, hA, hnm⟩
  unfold fX12_init_c11_b17 at hf
  obtain ⟨_, S1, c1, n1, c2_1, n2_1, e1, hf, hC1, hN1⟩ := gbo hf
  refine g_callI (pc := 17) (o := (some t0)) (b := t0) (As := [.int t1, va_rf t2, .int t3]) (rest := []) hc (mX12_init_2_c11 hk hJ (l0 := t0) (l1 := t1) (l2 := t2) (l3 := t3) e1) (cwI 3 hts (lw_meth q1619) rfl rfl rfl (hts _ q139) (hts _ q1617) (hts _ q1618) rfl hdiX12_init_2 ⟨Nat.le_of_ble_eq_true rfl, Nat.le_of_ble_eq_true rfl⟩) rfl rfl hl.1 rfl (lv_room (Nat.le_of_ble_eq_true rfl)) dX12_init_17 hH hS (by omega) (by omega) (fun H locs hH hS => ?_)
  have hkc : kc + c1 + c2_1 ≤ mc := by omega
  have hks : ks + n1 + n2_1 ≤ ms := by omega
  exact g_vret (pc := 20) hx hb hr hlk hH hS hkc hks hf dX12_init_20
def fX12_init_c11 (l0 : Nat) (l1 : Int32) (l2 : Option Nat) (S : gS) : gO Unit :=
  if l2 = none then
    fX12_init_c11_b17 l0 l1 l2 (nI 1) S
  else
    bd l2 fun a2 =>
    bd (rdPI S a2 2) fun v3 =>
    fX12_init_c11_b17 l0 l1 l2 (v3 + (nI 1)) S
theorem wX12_init_c11_b0 (hk : rOK Rp) (hJ : JDK l G Rp) (hc : gC p s m args meth c G RX12 "<init>" cX12_init 3 (none)) (l0 : Nat) (l1 : Int32) (l2 : Option Nat) (S : gS) (H : Heap) (locs : List Loc) (ls : Array Slot) (kc ks C N : Nat) (hkc : kc + C ≤ mc) (hks : ks + N ≤ ms) (hH : hp G Rp S H) (hS : va_S G.2.2.2 s.heap H locs) (hl : lv_has ls 3 [(0, .ref l0), (1, .int l1), (2, va_rf l2)]) (hf : fX12_init_c11 l0 l1 l2 S = some (r, Sf, C, N)) : W p l e (gR 2 63 mc ms) s m args below meth c H locs kc ks (gQ below G Rp none Sf args s mc ms) (F0 m 0 ls []) := by
  obtain ⟨hx, hb, hr, hlk, hml, hown, hts, hE, hA, hnm⟩ := hc
  have hc : gC p s m args meth c G RX12 "<init>" cX12_init 3 (none) := ⟨hx, hb, hr, hlk, hml, hown, hts, hE, hA, hnm⟩
  unfold fX12_init_c11 at hf
  refine lv_aload_n (pc := 0) hx hb dX12_init_0 rfl (lv_at hl 0 rfl) ?_
  refine lv_iload_n (pc := 1) hx hb dX12_init_1 rfl (lv_at hl 1 rfl) ?_
  refine g_aload_n (pc := 2) (o := l2) hx hb dX12_init_2 rfl (lv_at hl 2 rfl) ?_
  refine g_aload_n (pc := 3) (o := l2) hx hb dX12_init_3 rfl (lv_at hl 2 rfl) ?_
  refine g_ifnonnull (pc := 4) (o := l2) (tgt := 11) hx hb dX12_init_4 (by decide) (fun c1 => ?_) (fun c1 => ?_)
  · rw [if_neg c1] at hf
    refine g_aload_n (pc := 11) (o := l2) hx hb dX12_init_11 rfl (lv_at hl 2 rfl) ?_
    obtain ⟨a2, ea2, hf⟩ := bdo hf
    obtain ⟨v3, e3, hf⟩ := bdo hf
    refine g_getP (pc := 12) (o := l2) (a := a2) (k := 2) (v := .int v3) (ref := "CreditBroker$Cause") hx hb hts hown hE hk hH (by decide) (hts _ q1628) (fun _ h9 => h9) ea2 (rdPI_o e3) dX12_init_12 ?_
    refine lv_iconst (pc := 15) (v := nI 1) hx hb dX12_init_15 rfl ?_
    refine lv_iadd (pc := 16) hx hb dX12_init_16 ?_
    exact wX12_init_c11_b17 hk hJ hc l0 l1 l2 (v3 + (nI 1)) S _ _ ls _ _ _ _ hkc hks hH hS (lv_sub hl [] rfl) hf
  · rw [if_pos c1] at hf
    refine lv_iconst (pc := 7) (v := nI 1) hx hb dX12_init_7 rfl ?_
    refine lv_goto (pc := 8) (tgt := 17) hx hb dX12_init_8 (by decide) ?_
    exact wX12_init_c11_b17 hk hJ hc l0 l1 l2 (nI 1) S _ _ ls _ _ _ _ hkc hks hH hS (lv_sub hl [] rfl) hf
theorem mX12_init_c11 {l : Launch} {G : gG} {Rp : gM → gM → Nat → Prop} (hk : rOK Rp) (hJ : JDK l G Rp) {S S2 : gS} {r2 : Unit} {C N : Nat} {l0 : Nat} {l1 : Int32} {l2 : Option Nat} (hf : fX12_init_c11 l0 l1 l2 S = some (r2, S2, C, N)) : gMet l yX12_init cX12_init 3 (none) 2 63 G Rp [.ref l0, .int l1, va_rf l2] S none S2 C N := by
  refine g_start (by decide) (by simp [lg_sl, va_rf_cat, cat_i, cat_j, cat_r]) (fun p e s m args below meth c ls hc hl hH => ?_)
  have hl : lv_has ls 3 [(0, .ref l0), (1, .int l1), (2, va_rf l2)] := by simpa [lv_args, va_rf_cat, cat_i, cat_j, cat_r] using hl
  exact wX12_init_c11_b0 hk hJ hc l0 l1 l2 S _ _ ls 0 0 C N (by omega) (by omega) hH va_S.rf (lv_sub hl [0, 1, 2] rfl) hf
end
section
variable {r : Unit} {Sf : gS}
def fX17_init_2_c11 (l0 : Nat) (l1 : Int32) (l2 : Option Nat) (l3 : Int32) (l4 : Int32) (S : gS) : gO Unit :=
  gb (fX12_init_c11 l0 l1 l2 S) fun _ S1 =>
  bd (wr S1 l0 11 3 (.int l3)) fun S2 =>
  bd (wr S2 l0 11 4 (.int l4)) fun S3 =>
  some ((), S3, 0, 0)
theorem wX17_init_2_c11_b0 (hk : rOK Rp) (hJ : JDK l G Rp) (hc : gC p s m args meth c G RX17 "<init>" cX17_init_2 5 (none)) (l0 : Nat) (l1 : Int32) (l2 : Option Nat) (l3 : Int32) (l4 : Int32) (S : gS) (H : Heap) (locs : List Loc) (ls : Array Slot) (kc ks C N : Nat) (hkc : kc + C ≤ mc) (hks : ks + N ≤ ms) (hH : hp G Rp S H) (hS : va_S G.2.2.2 s.heap H locs) (hl : lv_has ls 5 [(0, .ref l0), (1, .int l1), (2, va_rf l2), (3, .int l3), (4, .int l4)]) (hf : fX17_init_2_c11 l0 l1 l2 l3 l4 S = some (r, Sf, C, N)) : W p l e (gR 3 85 mc ms) s m args below meth c H locs kc ks (gQ below G Rp none Sf args s mc ms) (F0 m 0 ls []) := by
  obtain ⟨hx, hb, hr, hlk, hml, hown, hts, hE, hA, hnm⟩ := hc
  have hc : gC p s m args meth c G RX17 "<init>" cX17_init_2 5 (none) := ⟨hx, hb, hr, hlk, hml, hown, hts, hE, hA, hnm⟩
  unfold fX17_init_2_c11 at hf
  refine lv_aload_n (pc := 0) hx hb dX17_init_2_0 rfl (lv_at hl 0 rfl) ?_
  refine lv_iload_n (pc := 1) hx hb dX17_init_2_1 rfl (lv_at hl 1 rfl) ?_
  refine g_aload_n (pc := 2) (o := l2) hx hb dX17_init_2_2 rfl (lv_at hl 2 rfl) ?_
  obtain ⟨_, S1, c1, n1, c2_1, n2_1, e1, hf, hC1, hN1⟩ := gbo hf
  refine g_callI (pc := 3) (o := (some l0)) (b := l0) (As := [.int l1, va_rf l2]) (rest := []) hc (mX12_init_c11 hk hJ (l0 := l0) (l1 := l1) (l2 := l2) e1) (cwI 2 hts (lw_meth q1616) rfl rfl rfl (hts _ q139) (hts _ q1883) (hts _ q1615) rfl hdiX12_init ⟨Nat.le_of_ble_eq_true rfl, Nat.le_of_ble_eq_true rfl⟩) rfl rfl hl.1 rfl (lv_room (Nat.le_of_ble_eq_true rfl)) dX17_init_2_3 hH hS (by omega) (by omega) (fun H locs hH hS => ?_)
  have hkc : kc + c1 + c2_1 ≤ mc := by omega
  have hks : ks + n1 + n2_1 ≤ ms := by omega
  refine lv_aload_n (pc := 6) hx hb dX17_init_2_6 rfl (lv_at hl 0 rfl) ?_
  refine lv_iload_n (pc := 7) hx hb dX17_init_2_7 rfl (lv_at hl 3 rfl) ?_
  obtain ⟨S2, e2, hf⟩ := bdo hf
  refine g_putF (pc := 8) (o := (some l0)) (a := l0) (ci := 11) (k := 3) (v := .int l3) (C := RX18) (T := TX18) (N := 5) (ty := .int) hx hb hts hown hE hk hH hS rfl in_X18 tyX18_ok nmX18 rfl (by decide) (hts _ q1884) (fun _ h9 => h9) rfl hnm rfl rfl rfl rfl rfl e2 dX17_init_2_8 (fun H locs hH hS => ?_)
  refine lv_aload_n (pc := 11) hx hb dX17_init_2_11 rfl (lv_at hl 0 rfl) ?_
  refine lv_iload (pc := 12) hx hb dX17_init_2_12 (lv_at hl 4 rfl) ?_
  obtain ⟨S3, e3, hf⟩ := bdo hf
  refine g_putF (pc := 14) (o := (some l0)) (a := l0) (ci := 11) (k := 4) (v := .int l4) (C := RX18) (T := TX18) (N := 5) (ty := .int) hx hb hts hown hE hk hH hS rfl in_X18 tyX18_ok nmX18 rfl (by decide) (hts _ q1886) (fun _ h9 => h9) rfl hnm rfl rfl rfl rfl rfl e3 dX17_init_2_14 (fun H locs hH hS => ?_)
  exact g_vret (pc := 17) hx hb hr hlk hH hS hkc hks hf dX17_init_2_17
theorem mX17_init_2_c11 {l : Launch} {G : gG} {Rp : gM → gM → Nat → Prop} (hk : rOK Rp) (hJ : JDK l G Rp) {S S2 : gS} {r2 : Unit} {C N : Nat} {l0 : Nat} {l1 : Int32} {l2 : Option Nat} {l3 : Int32} {l4 : Int32} (hf : fX17_init_2_c11 l0 l1 l2 l3 l4 S = some (r2, S2, C, N)) : gMet l yX17_init_2 cX17_init_2 5 (none) 3 85 G Rp [.ref l0, .int l1, va_rf l2, .int l3, .int l4] S none S2 C N := by
  refine g_start (by decide) (by simp [lg_sl, va_rf_cat, cat_i, cat_j, cat_r]) (fun p e s m args below meth c ls hc hl hH => ?_)
  have hl : lv_has ls 5 [(0, .ref l0), (1, .int l1), (2, va_rf l2), (3, .int l3), (4, .int l4)] := by simpa [lv_args, va_rf_cat, cat_i, cat_j, cat_r] using hl
  exact wX17_init_2_c11_b0 hk hJ hc l0 l1 l2 l3 l4 S _ _ ls 0 0 C N (by omega) (by omega) hH va_S.rf (lv_sub hl [0, 1, 2, 3, 4] rfl) hf
end
section
variable {r : Unit} {Sf : gS}
def fX17_init_c11 (l0 : Nat) (l1 : Int32) (l2 : Option Nat) (S : gS) : gO Unit :=
  bd l2 fun a1 =>
  bd (rdR S a1 4 5) fun v2 =>
  bd (rdI S a1 4 3) fun v3 =>
  bd (rdI S a1 4 4) fun v4 =>
  gb (fX17_init_2_c11 l0 l1 v2 v3 v4 S) fun _ S5 =>
  some ((), S5, 0, 0)
theorem wX17_init_c11_b0 (hk : rOK Rp) (hJ : JDK l G Rp) (hc : gC p s m args meth c G RX17 "<init>" cX17_init 3 (none)) (l0 : Nat) (l1 : Int32) (l2 : Option Nat) (S : gS) (H : Heap) (locs : List Loc) (ls : Array Slot) (kc ks C N : Nat) (hkc : kc + C ≤ mc) (hks : ks + N ≤ ms) (hH : hp G Rp S H) (hS : va_S G.2.2.2 s.heap H locs) (hl : lv_has ls 3 [(0, .ref l0), (1, .int l1), (2, va_rf l2)]) (hf : fX17_init_c11 l0 l1 l2 S = some (r, Sf, C, N)) : W p l e (gR 4 109 mc ms) s m args below meth c H locs kc ks (gQ below G Rp none Sf args s mc ms) (F0 m 0 ls []) := by
  obtain ⟨hx, hb, hr, hlk, hml, hown, hts, hE, hA, hnm⟩ := hc
  have hc : gC p s m args meth c G RX17 "<init>" cX17_init 3 (none) := ⟨hx, hb, hr, hlk, hml, hown, hts, hE, hA, hnm⟩
  unfold fX17_init_c11 at hf
  refine lv_aload_n (pc := 0) hx hb dX17_init_0 rfl (lv_at hl 0 rfl) ?_
  refine lv_iload_n (pc := 1) hx hb dX17_init_1 rfl (lv_at hl 1 rfl) ?_
  refine g_aload_n (pc := 2) (o := l2) hx hb dX17_init_2 rfl (lv_at hl 2 rfl) ?_
  obtain ⟨a1, ea1, hf⟩ := bdo hf
  obtain ⟨v2, e2, hf⟩ := bdo hf
  refine g_get (pc := 3) (o := l2) (a := a1) (ci := 4) (k := 5) (v := va_rf v2) (C := RX16) (T := TX16) (N := 6) hx hb hts hown hE hk hH in_X16 rfl (by decide) (hts _ q1728) (fun _ h9 => h9) ea1 (rdR_o e2) dX17_init_3 ?_
  refine g_aload_n (pc := 6) (o := l2) hx hb dX17_init_6 rfl (lv_at hl 2 rfl) ?_
  obtain ⟨v3, e3, hf⟩ := bdo hf
  refine g_get (pc := 7) (o := l2) (a := a1) (ci := 4) (k := 3) (v := .int v3) (C := RX16) (T := TX16) (N := 6) hx hb hts hown hE hk hH in_X16 rfl (by decide) (hts _ q1720) (fun _ h9 => h9) ea1 (rdI_o e3) dX17_init_7 ?_
  refine g_aload_n (pc := 10) (o := l2) hx hb dX17_init_10 rfl (lv_at hl 2 rfl) ?_
  obtain ⟨v4, e4, hf⟩ := bdo hf
  refine g_get (pc := 11) (o := l2) (a := a1) (ci := 4) (k := 4) (v := .int v4) (C := RX16) (T := TX16) (N := 6) hx hb hts hown hE hk hH in_X16 rfl (by decide) (hts _ q1724) (fun _ h9 => h9) ea1 (rdI_o e4) dX17_init_11 ?_
  obtain ⟨_, S5, c5, n5, c2_5, n2_5, e5, hf, hC5, hN5⟩ := gbo hf
  refine g_callI (pc := 14) (o := (some l0)) (b := l0) (As := [.int l1, va_rf v2, .int v3, .int v4]) (rest := []) hc (mX17_init_2_c11 hk hJ (l0 := l0) (l1 := l1) (l2 := v2) (l3 := v3) (l4 := v4) e5) (cwI 4 hts (lw_meth q1882) rfl rfl rfl (hts _ q145) (hts _ q1880) (hts _ q1881) rfl hdiX17_init_2 ⟨Nat.le_of_ble_eq_true rfl, Nat.le_of_ble_eq_true rfl⟩) rfl rfl hl.1 rfl (lv_room (Nat.le_of_ble_eq_true rfl)) dX17_init_14 hH hS (by omega) (by omega) (fun H locs hH hS => ?_)
  have hkc : kc + c5 + c2_5 ≤ mc := by omega
  have hks : ks + n5 + n2_5 ≤ ms := by omega
  exact g_vret (pc := 17) hx hb hr hlk hH hS hkc hks hf dX17_init_17
theorem mX17_init_c11 {l : Launch} {G : gG} {Rp : gM → gM → Nat → Prop} (hk : rOK Rp) (hJ : JDK l G Rp) {S S2 : gS} {r2 : Unit} {C N : Nat} {l0 : Nat} {l1 : Int32} {l2 : Option Nat} (hf : fX17_init_c11 l0 l1 l2 S = some (r2, S2, C, N)) : gMet l yX17_init cX17_init 3 (none) 4 109 G Rp [.ref l0, .int l1, va_rf l2] S none S2 C N := by
  refine g_start (by decide) (by simp [lg_sl, va_rf_cat, cat_i, cat_j, cat_r]) (fun p e s m args below meth c ls hc hl hH => ?_)
  have hl : lv_has ls 3 [(0, .ref l0), (1, .int l1), (2, va_rf l2)] := by simpa [lv_args, va_rf_cat, cat_i, cat_j, cat_r] using hl
  exact wX17_init_c11_b0 hk hJ hc l0 l1 l2 S _ _ ls 0 0 C N (by omega) (by omega) hH va_S.rf (lv_sub hl [0, 1, 2] rfl) hf
end
section
variable {r : Unit} {Sf : gS}
def fX18_init (l0 : Nat) (l1 : Int32) (l2 : Option Nat) (S : gS) : gO Unit :=
  gb (fX17_init_c11 l0 l1 l2 S) fun _ S1 =>
  some ((), S1, 0, 0)
theorem wX18_init_b0 (hk : rOK Rp) (hJ : JDK l G Rp) (hc : gC p s m args meth c G RX18 "<init>" cX18_init 3 (none)) (l0 : Nat) (l1 : Int32) (l2 : Option Nat) (S : gS) (H : Heap) (locs : List Loc) (ls : Array Slot) (kc ks C N : Nat) (hkc : kc + C ≤ mc) (hks : ks + N ≤ ms) (hH : hp G Rp S H) (hS : va_S G.2.2.2 s.heap H locs) (hl : lv_has ls 3 [(0, .ref l0), (1, .int l1), (2, va_rf l2)]) (hf : fX18_init l0 l1 l2 S = some (r, Sf, C, N)) : W p l e (gR 5 131 mc ms) s m args below meth c H locs kc ks (gQ below G Rp none Sf args s mc ms) (F0 m 0 ls []) := by
  obtain ⟨hx, hb, hr, hlk, hml, hown, hts, hE, hA, hnm⟩ := hc
  have hc : gC p s m args meth c G RX18 "<init>" cX18_init 3 (none) := ⟨hx, hb, hr, hlk, hml, hown, hts, hE, hA, hnm⟩
  unfold fX18_init at hf
  refine lv_aload_n (pc := 0) hx hb dX18_init_0 rfl (lv_at hl 0 rfl) ?_
  refine lv_iload_n (pc := 1) hx hb dX18_init_1 rfl (lv_at hl 1 rfl) ?_
  refine g_aload_n (pc := 2) (o := l2) hx hb dX18_init_2 rfl (lv_at hl 2 rfl) ?_
  obtain ⟨_, S1, c1, n1, c2_1, n2_1, e1, hf, hC1, hN1⟩ := gbo hf
  refine g_callI (pc := 3) (o := (some l0)) (b := l0) (As := [.int l1, va_rf l2]) (rest := []) hc (mX17_init_c11 hk hJ (l0 := l0) (l1 := l1) (l2 := l2) e1) (cwI 2 hts (lw_meth q1879) rfl rfl rfl (hts _ q145) (hts _ q1877) (hts _ q1878) rfl hdiX17_init ⟨Nat.le_of_ble_eq_true rfl, Nat.le_of_ble_eq_true rfl⟩) rfl rfl hl.1 rfl (lv_room (Nat.le_of_ble_eq_true rfl)) dX18_init_3 hH hS (by omega) (by omega) (fun H locs hH hS => ?_)
  have hkc : kc + c1 + c2_1 ≤ mc := by omega
  have hks : ks + n1 + n2_1 ≤ ms := by omega
  exact g_vret (pc := 6) hx hb hr hlk hH hS hkc hks hf dX18_init_6
theorem mX18_init {l : Launch} {G : gG} {Rp : gM → gM → Nat → Prop} (hk : rOK Rp) (hJ : JDK l G Rp) {S S2 : gS} {r2 : Unit} {C N : Nat} {l0 : Nat} {l1 : Int32} {l2 : Option Nat} (hf : fX18_init l0 l1 l2 S = some (r2, S2, C, N)) : gMet l yX18_init cX18_init 3 (none) 5 131 G Rp [.ref l0, .int l1, va_rf l2] S none S2 C N := by
  refine g_start (by decide) (by simp [lg_sl, va_rf_cat, cat_i, cat_j, cat_r]) (fun p e s m args below meth c ls hc hl hH => ?_)
  have hl : lv_has ls 3 [(0, .ref l0), (1, .int l1), (2, va_rf l2)] := by simpa [lv_args, va_rf_cat, cat_i, cat_j, cat_r] using hl
  exact wX18_init_b0 hk hJ hc l0 l1 l2 S _ _ ls 0 0 C N (by omega) (by omega) hH va_S.rf (lv_sub hl [0, 1, 2] rfl) hf
end
section
variable {r : Int32} {Sf : gS}
def fX1_fails (l0 : Nat) (l1 : Option Nat) (l2 : Option Nat) (l3 : Option Nat) (S : gS) : gO Int32 :=
  bd l2 fun a1 =>
  bd (wr S a1 4 5 (va_rf l3)) fun S2 =>
  bd (rdI S2 a1 4 3) fun v3 =>
  bd l1 fun a4 =>
  bd (rdI S2 a4 3 3) fun v5 =>
  if v3 = v5 then
    bd (rdR S2 a1 4 0) fun v11 =>
    bd (chk S2 l0 1) fun _ =>
    gb (fX1_buries l0 l1 v11 l3 S2) fun _ S12 =>
    zg (nI 1) S12
  else
    bd (rdI S2 l0 1 5) fun v7 =>
    bd (rdI S2 a1 4 3) fun v8 =>
    bd (kWaits (v8 - (nI 1))) fun v9 =>
    bd (chk S2 a1 4) fun _ =>
    gb (fX16_becomes a1 (nI 1) (v7 + v9) (-1) S2) fun _ S10 =>
    zg (nI 0) S10
theorem wX1_fails_b0 (hk : rOK Rp) (hJ : JDK l G Rp) (hc : gC p s m args meth c G RX1 "fails" cX1_fails 4 (some .boolean)) (l0 : Nat) (l1 : Option Nat) (l2 : Option Nat) (l3 : Option Nat) (S : gS) (H : Heap) (locs : List Loc) (ls : Array Slot) (kc ks C N : Nat) (hkc : kc + C ≤ mc) (hks : ks + N ≤ ms) (hH : hp G Rp S H) (hS : va_S G.2.2.2 s.heap H locs) (hl : lv_has ls 4 [(0, .ref l0), (1, va_rf l1), (2, va_rf l2), (3, va_rf l3)]) (hf : fX1_fails l0 l1 l2 l3 S = some (r, Sf, C, N)) : W p l e (gR 16 563 mc ms) s m args below meth c H locs kc ks (gQ below G Rp (some (.int r)) Sf args s mc ms) (F0 m 0 ls []) := by
  obtain ⟨hx, hb, hr, hlk, hml, hown, hts, hE, hA, hnm⟩ := hc
  have hc : gC p s m args meth c G RX1 "fails" cX1_fails 4 (some .boolean) := ⟨hx, hb, hr, hlk, hml, hown, hts, hE, hA, hnm⟩
  unfold fX1_fails at hf
  refine g_aload_n (pc := 0) (o := l2) hx hb dX1_fails_0 rfl (lv_at hl 2 rfl) ?_
  refine g_aload_n (pc := 1) (o := l3) hx hb dX1_fails_1 rfl (lv_at hl 3 rfl) ?_
  obtain ⟨a1, ea1, hf⟩ := bdo hf
  obtain ⟨S2, e2, hf⟩ := bdo hf
  refine g_put (pc := 2) (o := l2) (a := a1) (ci := 4) (k := 5) (v := va_rf l3) (C := RX16) (T := TX16) (N := 6) (ty := .object "CreditBroker$Cause") hx hb hts hown hE hk hH hS rfl in_X16 tyX16_ok nmX16 rfl (by decide) (hts _ q1731) (fun _ h9 => h9) rfl rfl (nar_rf _ _) (fit_rf _ _) ea1 e2 dX1_fails_2 (fun H locs hH hS => ?_)
  refine g_aload_n (pc := 5) (o := l2) hx hb dX1_fails_5 rfl (lv_at hl 2 rfl) ?_
  obtain ⟨v3, e3, hf⟩ := bdo hf
  refine g_get (pc := 6) (o := l2) (a := a1) (ci := 4) (k := 3) (v := .int v3) (C := RX16) (T := TX16) (N := 6) hx hb hts hown hE hk hH in_X16 rfl (by decide) (hts _ q1722) (fun _ h9 => h9) ea1 (rdI_o e3) dX1_fails_6 ?_
  refine g_aload_n (pc := 9) (o := l1) hx hb dX1_fails_9 rfl (lv_at hl 1 rfl) ?_
  obtain ⟨a4, ea4, hf⟩ := bdo hf
  obtain ⟨v5, e5, hf⟩ := bdo hf
  refine g_get (pc := 10) (o := l1) (a := a4) (ci := 3) (k := 3) (v := .int v5) (C := RX8) (T := TX8) (N := 13) hx hb hts hown hE hk hH in_X8 rfl (by decide) (hts _ q1159) (fun _ h9 => h9) ea4 (rdI_o e5) dX1_fails_10 ?_
  refine lv_icmp_ne (pc := 13) (tgt := 28) hx hb dX1_fails_13 (by decide) (fun c6 => ?_) (fun c6 => ?_)
  · rw [if_neg c6] at hf
    refine g_aload_n (pc := 28) (o := l2) hx hb dX1_fails_28 rfl (lv_at hl 2 rfl) ?_
    refine lv_iconst (pc := 29) (v := nI 1) hx hb dX1_fails_29 rfl ?_
    refine lv_aload_n (pc := 30) hx hb dX1_fails_30 rfl (lv_at hl 0 rfl) ?_
    obtain ⟨v7, e7, hf⟩ := bdo hf
    refine g_get (pc := 31) (o := (some l0)) (a := l0) (ci := 1) (k := 5) (v := .int v7) (C := RX1) (T := TX1) (N := 7) hx hb hts hown hE hk hH in_X1 rfl (by decide) (hts _ q241) (fun _ h9 => h9) rfl (rdI_o e7) dX1_fails_31 ?_
    refine g_waits (pc := 34) hx hb hE hS hown q1902 dX1_fails_34 ?_
    refine g_aload_n (pc := 37) (o := l2) hx hb dX1_fails_37 rfl (lv_at hl 2 rfl) ?_
    obtain ⟨v8, e8, hf⟩ := bdo hf
    refine g_get (pc := 38) (o := l2) (a := a1) (ci := 4) (k := 3) (v := .int v8) (C := RX16) (T := TX16) (N := 6) hx hb hts hown hE hk hH in_X16 rfl (by decide) (hts _ q1722) (fun _ h9 => h9) ea1 (rdI_o e8) dX1_fails_38 ?_
    refine lv_iconst (pc := 41) (v := nI 1) hx hb dX1_fails_41 rfl ?_
    refine lv_isub (pc := 42) hx hb dX1_fails_42 ?_
    obtain ⟨v9, e9, hf⟩ := bdo hf
    refine g_wald (pc := 43) hx hb hE hS e9 dX1_fails_43 ?_
    refine lv_iadd (pc := 44) hx hb dX1_fails_44 ?_
    refine lv_iconst (pc := 45) (v := -1) hx hb dX1_fails_45 rfl ?_
    obtain ⟨_, ek10, hf⟩ := bdo hf
    obtain ⟨_, S10, c10, n10, c2_10, n2_10, e10, hf, hC10, hN10⟩ := gbo hf
    refine g_callV (pc := 46) (o := l2) (b := a1) (As := [.int (nI 1), .int (v7 + v9), .int (-1)]) (rest := []) (st1 := []) hc (mX16_becomes hk hJ (l0 := a1) (l1 := (nI 1)) (l2 := (v7 + v9)) (l3 := (-1)) e10) (cwV 3 hts (lw_V q1772 q1522 q1523 q144 q1524) rfl rfl rfl hdX16_becomes ⟨Nat.le_of_ble_eq_true rfl, Nat.le_of_ble_eq_true rfl⟩) (g_recv hE hk hH (ci := 4) (q := (RX16, TX16, 6)) rfl (chk_o ek10).choose_spec) ea1 rfl hl.1 rfl rfl (lv_room (Nat.le_of_ble_eq_true rfl)) dX1_fails_46 hH hS (by omega) (by omega) (fun H locs hH hS => ?_)
    have hkc : kc + c10 + c2_10 ≤ mc := by omega
    have hks : ks + n10 + n2_10 ≤ ms := by omega
    refine lv_iconst (pc := 49) (v := nI 0) hx hb dX1_fails_49 rfl ?_
    exact g_zret (pc := 50) hx hb hr hlk hH hS hkc hks hf dX1_fails_50
  · rw [if_pos c6] at hf
    refine lv_aload_n (pc := 16) hx hb dX1_fails_16 rfl (lv_at hl 0 rfl) ?_
    refine g_aload_n (pc := 17) (o := l1) hx hb dX1_fails_17 rfl (lv_at hl 1 rfl) ?_
    refine g_aload_n (pc := 18) (o := l2) hx hb dX1_fails_18 rfl (lv_at hl 2 rfl) ?_
    obtain ⟨v11, e11, hf⟩ := bdo hf
    refine g_get (pc := 19) (o := l2) (a := a1) (ci := 4) (k := 0) (v := va_rf v11) (C := RX16) (T := TX16) (N := 6) hx hb hts hown hE hk hH in_X16 rfl (by decide) (hts _ q1710) (fun _ h9 => h9) ea1 (rdR_o e11) dX1_fails_19 ?_
    refine g_aload_n (pc := 22) (o := l3) hx hb dX1_fails_22 rfl (lv_at hl 3 rfl) ?_
    obtain ⟨_, ek12, hf⟩ := bdo hf
    obtain ⟨_, S12, c12, n12, c2_12, n2_12, e12, hf, hC12, hN12⟩ := gbo hf
    refine g_callV (pc := 23) (o := (some l0)) (b := l0) (As := [va_rf l1, va_rf v11, va_rf l3]) (rest := []) (st1 := []) hc (mX1_buries hk hJ (l0 := l0) (l1 := l1) (l2 := v11) (l3 := l3) e12) (cwV 3 hts (lw_V q1637 q1639 qs25 q98 q1640) rfl rfl rfl hdX1_buries ⟨Nat.le_of_ble_eq_true rfl, Nat.le_of_ble_eq_true rfl⟩) (g_recv hE hk hH (ci := 1) (q := (RX1, TX1, 7)) rfl (chk_o ek12).choose_spec) rfl rfl hl.1 rfl rfl (lv_room (Nat.le_of_ble_eq_true rfl)) dX1_fails_23 hH hS (by omega) (by omega) (fun H locs hH hS => ?_)
    have hkc : kc + c12 + c2_12 ≤ mc := by omega
    have hks : ks + n12 + n2_12 ≤ ms := by omega
    refine lv_iconst (pc := 26) (v := nI 1) hx hb dX1_fails_26 rfl ?_
    exact g_zret (pc := 27) hx hb hr hlk hH hS hkc hks hf dX1_fails_27
theorem mX1_fails {l : Launch} {G : gG} {Rp : gM → gM → Nat → Prop} (hk : rOK Rp) (hJ : JDK l G Rp) {S S2 : gS} {r2 : Int32} {C N : Nat} {l0 : Nat} {l1 : Option Nat} {l2 : Option Nat} {l3 : Option Nat} (hf : fX1_fails l0 l1 l2 l3 S = some (r2, S2, C, N)) : gMet l yX1_fails cX1_fails 4 (some .boolean) 16 563 G Rp [.ref l0, va_rf l1, va_rf l2, va_rf l3] S (some (.int r2)) S2 C N := by
  refine g_start (by decide) (by simp [lg_sl, va_rf_cat, cat_i, cat_j, cat_r]) (fun p e s m args below meth c ls hc hl hH => ?_)
  have hl : lv_has ls 4 [(0, .ref l0), (1, va_rf l1), (2, va_rf l2), (3, va_rf l3)] := by simpa [lv_args, va_rf_cat, cat_i, cat_j, cat_r] using hl
  exact wX1_fails_b0 hk hJ hc l0 l1 l2 l3 S _ _ ls 0 0 C N (by omega) (by omega) hH va_S.rf (lv_sub hl [0, 1, 2, 3] rfl) hf
end
end
