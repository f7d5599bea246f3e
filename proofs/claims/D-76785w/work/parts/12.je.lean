/-! printed by gen/jgen.py: methods of the JDK, lifted and walked at the plain level (5) -/
set_option maxRecDepth 100000
set_option maxHeartbeats 4000000
section
variable {p : Program} {l : Launch} {e : Env} {s : State} {m : MethodId} {args : Array Value} {below : List Frame} {meth : Method} {c : Code} {G : gG} {Rp : gM → gM → Nat → Prop} {mc ms : Nat}
section
variable {r : Option Nat} {Sf : gS}
def fJ15_append_3 (G : gG) (l0 : Nat) (l1 : Int32) (S : gS) : gO (Option Nat) :=
  bd (chk S l0 19) fun _ =>
  gb (fJ14_append_3_c19 G l0 l1 S) fun v1 S1 =>
  some ((some l0), S1, 0, 0)
theorem wJ15_append_3_b0 (hk : rOK Rp) (hc : gC p s m args meth c G RJ15 "append" cJ15_append_3 2 (some (.object "java/lang/StringBuilder"))) (l0 : Nat) (l1 : Int32) (S : gS) (H : Heap) (locs : List Loc) (ls : Array Slot) (kc ks C N : Nat) (hkc : kc + C ≤ mc) (hks : ks + N ≤ ms) (hH : hp G Rp S H) (hS : va_S G.2.2.2 s.heap H locs) (hl : lv_has ls 2 [(0, .ref l0), (1, .int l1)]) (hf : fJ15_append_3 G l0 l1 S = some (r, Sf, C, N)) : W p l e (gR 5 151 mc ms) s m args below meth c H locs kc ks (gQ below G Rp (some (va_rf r)) Sf args s mc ms) (F0 m 0 ls []) := by
  obtain ⟨hx, hb, hr, hlk, hml, hown, hts, hE, hA, hnm⟩ := hc
  have hc : gC p s m args meth c G RJ15 "append" cJ15_append_3 2 (some (.object "java/lang/StringBuilder")) := ⟨hx, hb, hr, hlk, hml, hown, hts, hE, hA, hnm⟩
  unfold fJ15_append_3 at hf
  refine lv_aload_n (pc := 0) hx hb dJ15_append_3_0 rfl (lv_at hl 0 rfl) ?_
  refine lv_iload_n (pc := 1) hx hb dJ15_append_3_1 rfl (lv_at hl 1 rfl) ?_
  obtain ⟨_, ek1, hf⟩ := bdo hf
  obtain ⟨v1, S1, c1, n1, c2_1, n2_1, e1, hf, hC1, hN1⟩ := gbo hf
  refine g_callSU (pc := 2) (o := (some l0)) (b := l0) (As := [.int l1]) (rest := []) (st1 := [va_rf v1]) (ci := 19) (q := (RJ15, TJ15, 4)) hc hk (mJ14_append_3_c19 hk (l0 := l0) (l1 := l1) e1) (va_cwSU 1 hts (lw_app (lw_of5 q957 q3297 q640 q958 q117) (lw_meth q959)) rfl rfl rfl jhsuJ14_append_3 ⟨Nat.le_of_ble_eq_true rfl, Nat.le_of_ble_eq_true rfl⟩) rfl (chk_o ek1).choose_spec rfl rfl hl.1 rfl rfl (lv_room (Nat.le_of_ble_eq_true rfl)) dJ15_append_3_2 hH hS (by omega) (by omega) (fun H locs hH hS => ?_)
  have hkc : kc + c1 + c2_1 ≤ mc := by omega
  have hks : ks + n1 + n2_1 ≤ ms := by omega
  refine lv_pop (pc := 5) hx hb dJ15_append_3_5 (va_rf_cat _) ?_
  refine lv_aload_n (pc := 6) hx hb dJ15_append_3_6 rfl (lv_at hl 0 rfl) ?_
  exact g_aret (pc := 7) (v := (some l0)) hx hb hr (Or.inl ⟨_, rfl⟩) hlk hH hS hkc hks hf dJ15_append_3_7
theorem mJ15_append_3 {l : Launch} {G : gG} {Rp : gM → gM → Nat → Prop} (hk : rOK Rp) {S S2 : gS} {r2 : Option Nat} {C N : Nat} {l0 : Nat} {l1 : Int32} (hf : fJ15_append_3 G l0 l1 S = some (r2, S2, C, N)) : gMet l yJ15_append_3 cJ15_append_3 2 (some (.object "java/lang/StringBuilder")) 5 151 G Rp [.ref l0, .int l1] S (some (va_rf r2)) S2 C N := by
  refine g_start (by decide) (Nat.le_of_ble_eq_true rfl) (fun p e s m args below meth c ls hc hl hH => ?_)
  have hl : lv_has ls 2 [(0, .ref l0), (1, .int l1)] := hl
  exact wJ15_append_3_b0 hk hc l0 l1 S _ _ ls 0 0 C N (by omega) (by omega) hH va_S.rf (lv_sub hl [0, 1] rfl) hf
end
section
variable {r : Unit} {Sf : gS}
def fJ14_inflateIfNeededFor_c19 (G : gG) (l0 : Nat) (l1 : Option Nat) (S : gS) : gO Unit :=
  if (nI 1) = 0 then
    some ((), S, 0, 0)
  else
    bd (rdI S l0 19 1) fun v2 =>
    bd l1 fun a4 =>
    bd (chS G S a4) fun _ =>
    gb (fJ9_coder G a4 S) fun v3 S3 =>
    if v2 = v3 then
      some ((), S3, 0, 0)
    else
      none
theorem wJ14_inflateIfNeededFor_c19_b0 (hk : rOK Rp) (hc : gC p s m args meth c G RJ14 "inflateIfNeededFor" cJ14_inflateIfNeededFor 2 (none)) (l0 : Nat) (l1 : Option Nat) (S : gS) (H : Heap) (locs : List Loc) (ls : Array Slot) (kc ks C N : Nat) (hkc : kc + C ≤ mc) (hks : ks + N ≤ ms) (hH : hp G Rp S H) (hS : va_S G.2.2.2 s.heap H locs) (hl : lv_has ls 2 [(0, .ref l0), (1, va_rf l1)]) (hf : fJ14_inflateIfNeededFor_c19 G l0 l1 S = some (r, Sf, C, N)) : W p l e (gR 2 80 mc ms) s m args below meth c H locs kc ks (gQ below G Rp none Sf args s mc ms) (F0 m 0 ls []) := by
  obtain ⟨hx, hb, hr, hlk, hml, hown, hts, hE, hA, hnm⟩ := hc
  have hc : gC p s m args meth c G RJ14 "inflateIfNeededFor" cJ14_inflateIfNeededFor 2 (none) := ⟨hx, hb, hr, hlk, hml, hown, hts, hE, hA, hnm⟩
  unfold fJ14_inflateIfNeededFor_c19 at hf
  refine g_compact (pc := 0) hx hb hE hS hown (hts _ q614) dJ14_inflateIfNeededFor_0 ?_
  refine lv_if_eq (pc := 3) (tgt := 21) hx hb dJ14_inflateIfNeededFor_3 (by decide) (fun c1 => ?_) (fun c1 => ?_)
  · rw [if_pos c1] at hf
    exact g_vret (pc := 21) hx hb hr hlk hH hS hkc hks hf dJ14_inflateIfNeededFor_21
  · rw [if_neg c1] at hf
    refine lv_aload_n (pc := 6) hx hb dJ14_inflateIfNeededFor_6 rfl (lv_at hl 0 rfl) ?_
    obtain ⟨v2, e2, hf⟩ := bdo hf
    refine g_get (pc := 7) (o := (some l0)) (a := l0) (ci := 19) (k := 1) (v := .int v2) (C := RJ15) (T := TJ15) (N := 4) hx hb hts hown hE hk hH in_J15 rfl (by decide) (hts _ q629) (fun _ h9 => h9) rfl (rdI_o e2) dJ14_inflateIfNeededFor_7 ?_
    refine g_aload_n (pc := 10) (o := l1) hx hb dJ14_inflateIfNeededFor_10 rfl (lv_at hl 1 rfl) ?_
    obtain ⟨a4, ea4, hf⟩ := bdo hf
    obtain ⟨_, ek3, hf⟩ := bdo hf
    obtain ⟨v3, S3, c3, n3, c2_3, n2_3, e3, hf, hC3, hN3⟩ := gbo hf
    refine g_callV (pc := 11) (o := l1) (b := a4) (As := []) (rest := [.int v2]) (st1 := [.int v3, .int v2]) hc (mJ9_coder hk (l0 := a4) e3) (cwV 0 hts (lw_V q734 q722 q723 q110 q724) rfl rfl rfl jhdJ9_coder ⟨Nat.le_of_ble_eq_true rfl, Nat.le_of_ble_eq_true rfl⟩) (g_recvS hE hk hH hS ek3) ea4 rfl hl.1 rfl rfl (lv_room (Nat.le_of_ble_eq_true rfl)) dJ14_inflateIfNeededFor_11 hH hS (by omega) (by omega) (fun H locs hH hS => ?_)
    have hkc : kc + c3 + c2_3 ≤ mc := by omega
    have hks : ks + n3 + n2_3 ≤ ms := by omega
    refine lv_icmp_eq (pc := 14) (tgt := 21) hx hb dJ14_inflateIfNeededFor_14 (by decide) (fun c5 => ?_) (fun c5 => ?_)
    · rw [if_pos c5] at hf
      exact g_vret (pc := 21) hx hb hr hlk hH hS hkc hks hf dJ14_inflateIfNeededFor_21
    · rw [if_neg c5] at hf
      refine lv_aload_n (pc := 17) hx hb dJ14_inflateIfNeededFor_17 rfl (lv_at hl 0 rfl) ?_
      exact absurd hf (fun h => by cases h)
theorem mJ14_inflateIfNeededFor_c19 {l : Launch} {G : gG} {Rp : gM → gM → Nat → Prop} (hk : rOK Rp) {S S2 : gS} {r2 : Unit} {C N : Nat} {l0 : Nat} {l1 : Option Nat} (hf : fJ14_inflateIfNeededFor_c19 G l0 l1 S = some (r2, S2, C, N)) : gMet l yJ14_inflateIfNeededFor cJ14_inflateIfNeededFor 2 (none) 2 80 G Rp [.ref l0, va_rf l1] S none S2 C N := by
  refine g_start (by decide) (by simp [lg_sl, va_rf_cat, cat_i, cat_j, cat_r]) (fun p e s m args below meth c ls hc hl hH => ?_)
  have hl : lv_has ls 2 [(0, .ref l0), (1, va_rf l1)] := by simpa [lv_args, va_rf_cat, cat_i, cat_j, cat_r] using hl
  exact wJ14_inflateIfNeededFor_c19_b0 hk hc l0 l1 S _ _ ls 0 0 C N (by omega) (by omega) hH va_S.rf (lv_sub hl [0, 1] rfl) hf
end
section
variable {r : Unit} {Sf : gS}
def fJ9_getBytes (G : gG) (l0 : Nat) (l1 : Option Nat) (l2 : Int32) (l3 : Int32) (S : gS) : gO Unit :=
  bd (chS G S l0) fun _ =>
  gb (fJ9_coder G l0 S) fun v1 S1 =>
  if v1 = l3 then
    bd (strV G S1 l0) fun v7 =>
    bd (strV G S1 l0) fun v8 =>
    bd v8 fun a9 =>
    bd (lenB G S1 a9) fun v10 =>
    bd v7 fun a11 =>
    bd l1 fun a12 =>
    bd (cpyK G S1 a11 (nI 0) a12 (l2 <<< (l3 &&& 31)) v10) fun S13 =>
    some ((), S13, 0, 0)
  else
    bd (strV G S1 l0) fun v3 =>
    bd (strV G S1 l0) fun v4 =>
    bd v4 fun a5 =>
    bd (lenB G S1 a5) fun v6 =>
    none
theorem wJ9_getBytes_b0 (hk : rOK Rp) (hc : gC p s m args meth c G RJ9 "getBytes" cJ9_getBytes 4 (none)) (l0 : Nat) (l1 : Option Nat) (l2 : Int32) (l3 : Int32) (S : gS) (H : Heap) (locs : List Loc) (ls : Array Slot) (kc ks C N : Nat) (hkc : kc + C ≤ mc) (hks : ks + N ≤ ms) (hH : hp G Rp S H) (hS : va_S G.2.2.2 s.heap H locs) (hl : lv_has ls 4 [(0, .ref l0), (1, va_rf l1), (2, .int l2), (3, .int l3)]) (hf : fJ9_getBytes G l0 l1 l2 l3 S = some (r, Sf, C, N)) : W p l e (gR 2 80 mc ms) s m args below meth c H locs kc ks (gQ below G Rp none Sf args s mc ms) (F0 m 0 ls []) := by
  obtain ⟨hx, hb, hr, hlk, hml, hown, hts, hE, hA, hnm⟩ := hc
  have hc : gC p s m args meth c G RJ9 "getBytes" cJ9_getBytes 4 (none) := ⟨hx, hb, hr, hlk, hml, hown, hts, hE, hA, hnm⟩
  unfold fJ9_getBytes at hf
  refine lv_aload_n (pc := 0) hx hb dJ9_getBytes_0 rfl (lv_at hl 0 rfl) ?_
  obtain ⟨_, ek1, hf⟩ := bdo hf
  obtain ⟨v1, S1, c1, n1, c2_1, n2_1, e1, hf, hC1, hN1⟩ := gbo hf
  refine g_callV (pc := 1) (o := (some l0)) (b := l0) (As := []) (rest := []) (st1 := [.int v1]) hc (mJ9_coder hk (l0 := l0) e1) (cwV 0 hts (lw_V q721 q722 q723 q110 q724) rfl rfl rfl jhdJ9_coder ⟨Nat.le_of_ble_eq_true rfl, Nat.le_of_ble_eq_true rfl⟩) (g_recvS hE hk hH hS ek1) rfl rfl hl.1 rfl rfl (lv_room (Nat.le_of_ble_eq_true rfl)) dJ9_getBytes_1 hH hS (by omega) (by omega) (fun H locs hH hS => ?_)
  have hkc : kc + c1 + c2_1 ≤ mc := by omega
  have hks : ks + n1 + n2_1 ≤ ms := by omega
  refine lv_iload_n (pc := 4) hx hb dJ9_getBytes_4 rfl (lv_at hl 3 rfl) ?_
  refine lv_icmp_ne (pc := 5) (tgt := 28) hx hb dJ9_getBytes_5 (by decide) (fun c2 => ?_) (fun c2 => ?_)
  · rw [if_neg c2] at hf
    refine lv_aload_n (pc := 28) hx hb dJ9_getBytes_28 rfl (lv_at hl 0 rfl) ?_
    obtain ⟨v3, e3, hf⟩ := bdo hf
    refine g_strV (pc := 29) (o := (some l0)) (a := l0) hx hb hts hown hE hk hH hS q834 rfl e3 dJ9_getBytes_29 ?_
    refine lv_iconst (pc := 32) (v := nI 0) hx hb dJ9_getBytes_32 rfl ?_
    refine g_aload_n (pc := 33) (o := l1) hx hb dJ9_getBytes_33 rfl (lv_at hl 1 rfl) ?_
    refine lv_iload_n (pc := 34) hx hb dJ9_getBytes_34 rfl (lv_at hl 2 rfl) ?_
    refine lv_aload_n (pc := 35) hx hb dJ9_getBytes_35 rfl (lv_at hl 0 rfl) ?_
    obtain ⟨v4, e4, hf⟩ := bdo hf
    refine g_strV (pc := 36) (o := (some l0)) (a := l0) hx hb hts hown hE hk hH hS q834 rfl e4 dJ9_getBytes_36 ?_
    obtain ⟨a5, ea5, hf⟩ := bdo hf
    obtain ⟨v6, e6, hf⟩ := bdo hf
    refine g_lenB (pc := 39) (o := v4) (a := a5) hx hb hE hk hH hS ea5 e6 dJ9_getBytes_39 ?_
    exact absurd hf (fun h => by cases h)
  · rw [if_pos c2] at hf
    refine lv_aload_n (pc := 8) hx hb dJ9_getBytes_8 rfl (lv_at hl 0 rfl) ?_
    obtain ⟨v7, e7, hf⟩ := bdo hf
    refine g_strV (pc := 9) (o := (some l0)) (a := l0) hx hb hts hown hE hk hH hS q834 rfl e7 dJ9_getBytes_9 ?_
    refine lv_iconst (pc := 12) (v := nI 0) hx hb dJ9_getBytes_12 rfl ?_
    refine g_aload_n (pc := 13) (o := l1) hx hb dJ9_getBytes_13 rfl (lv_at hl 1 rfl) ?_
    refine lv_iload_n (pc := 14) hx hb dJ9_getBytes_14 rfl (lv_at hl 2 rfl) ?_
    refine lv_iload_n (pc := 15) hx hb dJ9_getBytes_15 rfl (lv_at hl 3 rfl) ?_
    refine lv_ishl (pc := 16) hx hb dJ9_getBytes_16 ?_
    refine lv_aload_n (pc := 17) hx hb dJ9_getBytes_17 rfl (lv_at hl 0 rfl) ?_
    obtain ⟨v8, e8, hf⟩ := bdo hf
    refine g_strV (pc := 18) (o := (some l0)) (a := l0) hx hb hts hown hE hk hH hS q834 rfl e8 dJ9_getBytes_18 ?_
    obtain ⟨a9, ea9, hf⟩ := bdo hf
    obtain ⟨v10, e10, hf⟩ := bdo hf
    refine g_lenB (pc := 21) (o := v8) (a := a9) hx hb hE hk hH hS ea9 e10 dJ9_getBytes_21 ?_
    obtain ⟨a11, ea11, hf⟩ := bdo hf
    obtain ⟨a12, ea12, hf⟩ := bdo hf
    obtain ⟨S13, e13, hf⟩ := bdo hf
    refine g_cpyK (pc := 22) (o0 := v7) (a0 := a11) (o := l1) (a := a12) hx hb (hml.trans hl.1.symm) hts hown hE hk hH hS q758 q520 q519 q116 ea11 ea12 e13 (Nat.le_of_ble_eq_true rfl) (by simp [gR, va_rf_cat, cat_i, cat_j, cat_r]) dJ9_getBytes_22 (fun H locs hH hS => ?_)
    refine lv_goto (pc := 25) (tgt := 43) hx hb dJ9_getBytes_25 (by decide) ?_
    exact g_vret (pc := 43) hx hb hr hlk hH hS hkc hks hf dJ9_getBytes_43
theorem mJ9_getBytes {l : Launch} {G : gG} {Rp : gM → gM → Nat → Prop} (hk : rOK Rp) {S S2 : gS} {r2 : Unit} {C N : Nat} {l0 : Nat} {l1 : Option Nat} {l2 : Int32} {l3 : Int32} (hf : fJ9_getBytes G l0 l1 l2 l3 S = some (r2, S2, C, N)) : gMet l yJ9_getBytes cJ9_getBytes 4 (none) 2 80 G Rp [.ref l0, va_rf l1, .int l2, .int l3] S none S2 C N := by
  refine g_start (by decide) (by simp [lg_sl, va_rf_cat, cat_i, cat_j, cat_r]) (fun p e s m args below meth c ls hc hl hH => ?_)
  have hl : lv_has ls 4 [(0, .ref l0), (1, va_rf l1), (2, .int l2), (3, .int l3)] := by simpa [lv_args, va_rf_cat, cat_i, cat_j, cat_r] using hl
  exact wJ9_getBytes_b0 hk hc l0 l1 l2 l3 S _ _ ls 0 0 C N (by omega) (by omega) hH va_S.rf (lv_sub hl [0, 1, 2, 3] rfl) hf
end
section
variable {r : Unit} {Sf : gS}
def fJ14_putStringAt_c19 (G : gG) (l0 : Nat) (l1 : Int32) (l2 : Option Nat) (S : gS) : gO Unit :=
  bd (chk S l0 19) fun _ =>
  gb (fJ14_inflateIfNeededFor_c19 G l0 l2 S) fun _ S1 =>
  bd (rdR S1 l0 19 0) fun v2 =>
  bd (rdI S1 l0 19 1) fun v3 =>
  bd l2 fun a5 =>
  bd (chS G S1 a5) fun _ =>
  gb (fJ9_getBytes G a5 v2 l1 v3 S1) fun _ S4 =>
  some ((), S4, 0, 0)
theorem wJ14_putStringAt_c19_b0 (hk : rOK Rp) (hc : gC p s m args meth c G RJ14 "putStringAt" cJ14_putStringAt 3 (none)) (l0 : Nat) (l1 : Int32) (l2 : Option Nat) (S : gS) (H : Heap) (locs : List Loc) (ls : Array Slot) (kc ks C N : Nat) (hkc : kc + C ≤ mc) (hks : ks + N ≤ ms) (hH : hp G Rp S H) (hS : va_S G.2.2.2 s.heap H locs) (hl : lv_has ls 3 [(0, .ref l0), (1, .int l1), (2, va_rf l2)]) (hf : fJ14_putStringAt_c19 G l0 l1 l2 S = some (r, Sf, C, N)) : W p l e (gR 3 103 mc ms) s m args below meth c H locs kc ks (gQ below G Rp none Sf args s mc ms) (F0 m 0 ls []) := by
  obtain ⟨hx, hb, hr, hlk, hml, hown, hts, hE, hA, hnm⟩ := hc
  have hc : gC p s m args meth c G RJ14 "putStringAt" cJ14_putStringAt 3 (none) := ⟨hx, hb, hr, hlk, hml, hown, hts, hE, hA, hnm⟩
  unfold fJ14_putStringAt_c19 at hf
  refine lv_aload_n (pc := 0) hx hb dJ14_putStringAt_0 rfl (lv_at hl 0 rfl) ?_
  refine g_aload_n (pc := 1) (o := l2) hx hb dJ14_putStringAt_1 rfl (lv_at hl 2 rfl) ?_
  obtain ⟨_, ek1, hf⟩ := bdo hf
  obtain ⟨_, S1, c1, n1, c2_1, n2_1, e1, hf, hC1, hN1⟩ := gbo hf
  refine g_callVC (pc := 2) (o := (some l0)) (b := l0) (As := [va_rf l2]) (rest := []) (st1 := []) (C := "java/lang/StringBuilder") hc (mJ14_inflateIfNeededFor_c19 hk (l0 := l0) (l1 := l2) e1) (cwP 1 hts (lw_meth q733) rfl rfl rfl (hts _ q730) (hts _ q732) (hts _ q117) (va_Nw.use rfl (hE.2.2.2.2.2.2.2.2.2.2.2.2.2.2 _ (List.mem_of_getElem? (i := 3) rfl))) jhdJ14_inflateIfNeededFor.2 ⟨Nat.le_of_ble_eq_true rfl, Nat.le_of_ble_eq_true rfl⟩) (g_recv hE hk hH (ci := 19) (q := (RJ15, TJ15, 4)) rfl (chk_o ek1).choose_spec) rfl rfl hl.1 rfl rfl (lv_room (Nat.le_of_ble_eq_true rfl)) dJ14_putStringAt_2 hH hS (by omega) (by omega) (fun H locs hH hS => ?_)
  have hkc : kc + c1 + c2_1 ≤ mc := by omega
  have hks : ks + n1 + n2_1 ≤ ms := by omega
  refine g_aload_n (pc := 5) (o := l2) hx hb dJ14_putStringAt_5 rfl (lv_at hl 2 rfl) ?_
  refine lv_aload_n (pc := 6) hx hb dJ14_putStringAt_6 rfl (lv_at hl 0 rfl) ?_
  obtain ⟨v2, e2, hf⟩ := bdo hf
  refine g_get (pc := 7) (o := (some l0)) (a := l0) (ci := 19) (k := 0) (v := va_rf v2) (C := RJ15) (T := TJ15) (N := 4) hx hb hts hown hE hk hH in_J15 rfl (by decide) (hts _ q628) (fun _ h9 => h9) rfl (rdR_o e2) dJ14_putStringAt_7 ?_
  refine lv_iload_n (pc := 10) hx hb dJ14_putStringAt_10 rfl (lv_at hl 1 rfl) ?_
  refine lv_aload_n (pc := 11) hx hb dJ14_putStringAt_11 rfl (lv_at hl 0 rfl) ?_
  obtain ⟨v3, e3, hf⟩ := bdo hf
  refine g_get (pc := 12) (o := (some l0)) (a := l0) (ci := 19) (k := 1) (v := .int v3) (C := RJ15) (T := TJ15) (N := 4) hx hb hts hown hE hk hH in_J15 rfl (by decide) (hts _ q629) (fun _ h9 => h9) rfl (rdI_o e3) dJ14_putStringAt_12 ?_
  obtain ⟨a5, ea5, hf⟩ := bdo hf
  obtain ⟨_, ek4, hf⟩ := bdo hf
  obtain ⟨_, S4, c4, n4, c2_4, n2_4, e4, hf, hC4, hN4⟩ := gbo hf
  refine g_callV (pc := 15) (o := l2) (b := a5) (As := [va_rf v2, .int l1, .int v3]) (rest := []) (st1 := []) hc (mJ9_getBytes hk (l0 := a5) (l1 := v2) (l2 := l1) (l3 := v3) e4) (cwV 3 hts (lw_V q754 q755 q756 q110 q757) rfl rfl rfl jhdJ9_getBytes ⟨Nat.le_of_ble_eq_true rfl, Nat.le_of_ble_eq_true rfl⟩) (g_recvS hE hk hH hS ek4) ea5 rfl hl.1 rfl rfl (lv_room (Nat.le_of_ble_eq_true rfl)) dJ14_putStringAt_15 hH hS (by omega) (by omega) (fun H locs hH hS => ?_)
  have hkc : kc + c1 + c4 + c2_4 ≤ mc := by omega
  have hks : ks + n1 + n4 + n2_4 ≤ ms := by omega
  exact g_vret (pc := 18) hx hb hr hlk hH hS hkc hks hf dJ14_putStringAt_18
theorem mJ14_putStringAt_c19 {l : Launch} {G : gG} {Rp : gM → gM → Nat → Prop} (hk : rOK Rp) {S S2 : gS} {r2 : Unit} {C N : Nat} {l0 : Nat} {l1 : Int32} {l2 : Option Nat} (hf : fJ14_putStringAt_c19 G l0 l1 l2 S = some (r2, S2, C, N)) : gMet l yJ14_putStringAt cJ14_putStringAt 3 (none) 3 103 G Rp [.ref l0, .int l1, va_rf l2] S none S2 C N := by
  refine g_start (by decide) (by simp [lg_sl, va_rf_cat, cat_i, cat_j, cat_r]) (fun p e s m args below meth c ls hc hl hH => ?_)
  have hl : lv_has ls 3 [(0, .ref l0), (1, .int l1), (2, va_rf l2)] := by simpa [lv_args, va_rf_cat, cat_i, cat_j, cat_r] using hl
  exact wJ14_putStringAt_c19_b0 hk hc l0 l1 l2 S _ _ ls 0 0 C N (by omega) (by omega) hH va_S.rf (lv_sub hl [0, 1, 2] rfl) hf
end
section
variable {r : Option Nat} {Sf : gS}
def fJ14_append_c19 (G : gG) (l0 : Nat) (l1 : Option Nat) (S : gS) : gO (Option Nat) :=
  if l1 = none then
    none
  else
    bd l1 fun a3 =>
    bd (chS G S a3) fun _ =>
    gb (fJ9_length G a3 S) fun v2 S2 =>
    bd (rdI S2 l0 19 3) fun v4 =>
    bd (chk S2 l0 19) fun _ =>
    gb (fJ14_ensureCapacityInternal_c19 G l0 (v4 + v2) S2) fun _ S5 =>
    bd (rdI S5 l0 19 3) fun v6 =>
    bd (chk S5 l0 19) fun _ =>
    gb (fJ14_putStringAt_c19 G l0 v6 l1 S5) fun _ S7 =>
    bd (rdI S7 l0 19 3) fun v8 =>
    bd (wr S7 l0 19 3 (.int (v8 + v2))) fun S9 =>
    some ((some l0), S9, 0, 0)
theorem wJ14_append_c19_b0 (hk : rOK Rp) (hc : gC p s m args meth c G RJ14 "append" cJ14_append 3 (some (.object "java/lang/AbstractStringBuilder"))) (l0 : Nat) (l1 : Option Nat) (S : gS) (H : Heap) (locs : List Loc) (ls : Array Slot) (kc ks C N : Nat) (hkc : kc + C ≤ mc) (hks : ks + N ≤ ms) (hH : hp G Rp S H) (hS : va_S G.2.2.2 s.heap H locs) (hl : lv_has ls 3 [(0, .ref l0), (1, va_rf l1)]) (hf : fJ14_append_c19 G l0 l1 S = some (r, Sf, C, N)) : W p l e (gR 4 130 mc ms) s m args below meth c H locs kc ks (gQ below G Rp (some (va_rf r)) Sf args s mc ms) (F0 m 0 ls []) := by
  obtain ⟨hx, hb, hr, hlk, hml, hown, hts, hE, hA, hnm⟩ := hc
  have hc : gC p s m args meth c G RJ14 "append" cJ14_append 3 (some (.object "java/lang/AbstractStringBuilder")) := ⟨hx, hb, hr, hlk, hml, hown, hts, hE, hA, hnm⟩
  unfold fJ14_append_c19 at hf
  refine g_aload_n (pc := 0) (o := l1) hx hb dJ14_append_0 rfl (lv_at hl 1 rfl) ?_
  refine g_ifnonnull (pc := 1) (o := l1) (tgt := 9) hx hb dJ14_append_1 (by decide) (fun c1 => ?_) (fun c1 => ?_)
  · rw [if_neg c1] at hf
    refine g_aload_n (pc := 9) (o := l1) hx hb dJ14_append_9 rfl (lv_at hl 1 rfl) ?_
    obtain ⟨a3, ea3, hf⟩ := bdo hf
    obtain ⟨_, ek2, hf⟩ := bdo hf
    obtain ⟨v2, S2, c2, n2, c2_2, n2_2, e2, hf, hC2, hN2⟩ := gbo hf
    refine g_callV (pc := 10) (o := l1) (b := a3) (As := []) (rest := []) (st1 := [.int v2]) hc (mJ9_length hk (l0 := a3) e2) (cwV 0 hts (lw_V q717 q718 q719 q110 q720) rfl rfl rfl jhdJ9_length ⟨Nat.le_of_ble_eq_true rfl, Nat.le_of_ble_eq_true rfl⟩) (g_recvS hE hk hH hS ek2) ea3 rfl hl.1 rfl rfl (lv_room (Nat.le_of_ble_eq_true rfl)) dJ14_append_10 hH hS (by omega) (by omega) (fun H locs hH hS => ?_)
    have hkc : kc + c2 + c2_2 ≤ mc := by omega
    have hks : ks + n2 + n2_2 ≤ ms := by omega
    refine lv_istore_n (pc := 13) (i := 2) (lv' := [(2, .int v2), (0, .ref l0), (1, va_rf l1)]) hx hb dJ14_append_13 rfl hl (by decide) (by simp [va_rf_cat, cat_i, cat_j, cat_r] <;> rfl) (fun ls hl => ?_)
    refine lv_aload_n (pc := 14) hx hb dJ14_append_14 rfl (lv_at hl 1 rfl) ?_
    refine lv_aload_n (pc := 15) hx hb dJ14_append_15 rfl (lv_at hl 1 rfl) ?_
    obtain ⟨v4, e4, hf⟩ := bdo hf
    refine g_get (pc := 16) (o := (some l0)) (a := l0) (ci := 19) (k := 3) (v := .int v4) (C := RJ15) (T := TJ15) (N := 4) hx hb hts hown hE hk hH in_J15 rfl (by decide) (hts _ q631) (fun _ h9 => h9) rfl (rdI_o e4) dJ14_append_16 ?_
    refine lv_iload_n (pc := 19) hx hb dJ14_append_19 rfl (lv_at hl 0 rfl) ?_
    refine lv_iadd (pc := 20) hx hb dJ14_append_20 ?_
    obtain ⟨_, ek5, hf⟩ := bdo hf
    obtain ⟨_, S5, c5, n5, c2_5, n2_5, e5, hf, hC5, hN5⟩ := gbo hf
    refine g_callVC (pc := 21) (o := (some l0)) (b := l0) (As := [.int (v4 + v2)]) (rest := []) (st1 := []) (C := "java/lang/StringBuilder") hc (mJ14_ensureCapacityInternal_c19 hk (l0 := l0) (l1 := (v4 + v2)) e5) (cwP 1 hts (lw_meth q656) rfl rfl rfl (hts _ q653) (hts _ q655) (hts _ q117) (va_Nw.use rfl (hE.2.2.2.2.2.2.2.2.2.2.2.2.2.2 _ (List.mem_of_getElem? (i := 0) rfl))) jhdJ14_ensureCapacityInternal.2 ⟨Nat.le_of_ble_eq_true rfl, Nat.le_of_ble_eq_true rfl⟩) (g_recv hE hk hH (ci := 19) (q := (RJ15, TJ15, 4)) rfl (chk_o ek5).choose_spec) rfl rfl hl.1 rfl rfl (lv_room (Nat.le_of_ble_eq_true rfl)) dJ14_append_21 hH hS (by omega) (by omega) (fun H locs hH hS => ?_)
    have hkc : kc + c2 + c5 + c2_5 ≤ mc := by omega
    have hks : ks + n2 + n5 + n2_5 ≤ ms := by omega
    refine lv_aload_n (pc := 24) hx hb dJ14_append_24 rfl (lv_at hl 1 rfl) ?_
    refine lv_aload_n (pc := 25) hx hb dJ14_append_25 rfl (lv_at hl 1 rfl) ?_
    obtain ⟨v6, e6, hf⟩ := bdo hf
    refine g_get (pc := 26) (o := (some l0)) (a := l0) (ci := 19) (k := 3) (v := .int v6) (C := RJ15) (T := TJ15) (N := 4) hx hb hts hown hE hk hH in_J15 rfl (by decide) (hts _ q631) (fun _ h9 => h9) rfl (rdI_o e6) dJ14_append_26 ?_
    refine g_aload_n (pc := 29) (o := l1) hx hb dJ14_append_29 rfl (lv_at hl 2 rfl) ?_
    obtain ⟨_, ek7, hf⟩ := bdo hf
    obtain ⟨_, S7, c7, n7, c2_7, n2_7, e7, hf, hC7, hN7⟩ := gbo hf
    refine g_callVC (pc := 30) (o := (some l0)) (b := l0) (As := [.int v6, va_rf l1]) (rest := []) (st1 := []) (C := "java/lang/StringBuilder") hc (mJ14_putStringAt_c19 hk (l0 := l0) (l1 := v6) (l2 := l1) e7) (cwP 2 hts (lw_meth q729) rfl rfl rfl (hts _ q726) (hts _ q728) (hts _ q117) (va_Nw.use rfl (hE.2.2.2.2.2.2.2.2.2.2.2.2.2.2 _ (List.mem_of_getElem? (i := 2) rfl))) jhdJ14_putStringAt.2 ⟨Nat.le_of_ble_eq_true rfl, Nat.le_of_ble_eq_true rfl⟩) (g_recv hE hk hH (ci := 19) (q := (RJ15, TJ15, 4)) rfl (chk_o ek7).choose_spec) rfl rfl hl.1 rfl rfl (lv_room (Nat.le_of_ble_eq_true rfl)) dJ14_append_30 hH hS (by omega) (by omega) (fun H locs hH hS => ?_)
    have hkc : kc + c2 + c5 + c7 + c2_7 ≤ mc := by omega
    have hks : ks + n2 + n5 + n7 + n2_7 ≤ ms := by omega
    refine lv_aload_n (pc := 33) hx hb dJ14_append_33 rfl (lv_at hl 1 rfl) ?_
    refine lv_dup (pc := 34) hx hb dJ14_append_34 rfl ?_
    obtain ⟨v8, e8, hf⟩ := bdo hf
    refine g_get (pc := 35) (o := (some l0)) (a := l0) (ci := 19) (k := 3) (v := .int v8) (C := RJ15) (T := TJ15) (N := 4) hx hb hts hown hE hk hH in_J15 rfl (by decide) (hts _ q631) (fun _ h9 => h9) rfl (rdI_o e8) dJ14_append_35 ?_
    refine lv_iload_n (pc := 38) hx hb dJ14_append_38 rfl (lv_at hl 0 rfl) ?_
    refine lv_iadd (pc := 39) hx hb dJ14_append_39 ?_
    obtain ⟨S9, e9, hf⟩ := bdo hf
    refine g_put (pc := 40) (o := (some l0)) (a := l0) (ci := 19) (k := 3) (v := .int (v8 + v2)) (C := RJ15) (T := TJ15) (N := 4) (ty := .int) hx hb hts hown hE hk hH hS rfl in_J15 tyJ15_ok nmJ15 rfl (by decide) (hts _ q631) (fun _ h9 => h9) rfl rfl rfl rfl rfl e9 dJ14_append_40 (fun H locs hH hS => ?_)
    refine lv_aload_n (pc := 43) hx hb dJ14_append_43 rfl (lv_at hl 1 rfl) ?_
    exact g_aret (pc := 44) (v := (some l0)) hx hb hr (Or.inl ⟨_, rfl⟩) hlk hH hS hkc hks hf dJ14_append_44
  · rw [if_pos c1] at hf
    refine lv_aload_n (pc := 4) hx hb dJ14_append_4 rfl (lv_at hl 0 rfl) ?_
    exact absurd hf (fun h => by cases h)
theorem mJ14_append_c19 {l : Launch} {G : gG} {Rp : gM → gM → Nat → Prop} (hk : rOK Rp) {S S2 : gS} {r2 : Option Nat} {C N : Nat} {l0 : Nat} {l1 : Option Nat} (hf : fJ14_append_c19 G l0 l1 S = some (r2, S2, C, N)) : gMet l yJ14_append cJ14_append 3 (some (.object "java/lang/AbstractStringBuilder")) 4 130 G Rp [.ref l0, va_rf l1] S (some (va_rf r2)) S2 C N := by
  refine g_start (by decide) (by simp [lg_sl, va_rf_cat, cat_i, cat_j, cat_r]) (fun p e s m args below meth c ls hc hl hH => ?_)
  have hl : lv_has ls 3 [(0, .ref l0), (1, va_rf l1)] := by simpa [lv_args, va_rf_cat, cat_i, cat_j, cat_r] using hl
  exact wJ14_append_c19_b0 hk hc l0 l1 S _ _ ls 0 0 C N (by omega) (by omega) hH va_S.rf (lv_sub hl [0, 1] rfl) hf
end
section
variable {r : Option Nat} {Sf : gS}
def fJ15_append (G : gG) (l0 : Nat) (l1 : Option Nat) (S : gS) : gO (Option Nat) :=
  bd (chk S l0 19) fun _ =>
  gb (fJ14_append_c19 G l0 l1 S) fun v1 S1 =>
  some ((some l0), S1, 0, 0)
theorem wJ15_append_b0 (hk : rOK Rp) (hc : gC p s m args meth c G RJ15 "append" cJ15_append 2 (some (.object "java/lang/StringBuilder"))) (l0 : Nat) (l1 : Option Nat) (S : gS) (H : Heap) (locs : List Loc) (ls : Array Slot) (kc ks C N : Nat) (hkc : kc + C ≤ mc) (hks : ks + N ≤ ms) (hH : hp G Rp S H) (hS : va_S G.2.2.2 s.heap H locs) (hl : lv_has ls 2 [(0, .ref l0), (1, va_rf l1)]) (hf : fJ15_append G l0 l1 S = some (r, Sf, C, N)) : W p l e (gR 5 152 mc ms) s m args below meth c H locs kc ks (gQ below G Rp (some (va_rf r)) Sf args s mc ms) (F0 m 0 ls []) := by
  obtain ⟨hx, hb, hr, hlk, hml, hown, hts, hE, hA, hnm⟩ := hc
  have hc : gC p s m args meth c G RJ15 "append" cJ15_append 2 (some (.object "java/lang/StringBuilder")) := ⟨hx, hb, hr, hlk, hml, hown, hts, hE, hA, hnm⟩
  unfold fJ15_append at hf
  refine lv_aload_n (pc := 0) hx hb dJ15_append_0 rfl (lv_at hl 0 rfl) ?_
  refine g_aload_n (pc := 1) (o := l1) hx hb dJ15_append_1 rfl (lv_at hl 1 rfl) ?_
  obtain ⟨_, ek1, hf⟩ := bdo hf
  obtain ⟨v1, S1, c1, n1, c2_1, n2_1, e1, hf, hC1, hN1⟩ := gbo hf
  refine g_callSU (pc := 2) (o := (some l0)) (b := l0) (As := [va_rf l1]) (rest := []) (st1 := [va_rf v1]) (ci := 19) (q := (RJ15, TJ15, 4)) hc hk (mJ14_append_c19 hk (l0 := l0) (l1 := l1) e1) (va_cwSU 1 hts (lw_app (lw_of5 q646 q3289 q640 q647 q117) (lw_meth q648)) rfl rfl rfl jhsuJ14_append ⟨Nat.le_of_ble_eq_true rfl, Nat.le_of_ble_eq_true rfl⟩) rfl (chk_o ek1).choose_spec rfl rfl hl.1 rfl rfl (lv_room (Nat.le_of_ble_eq_true rfl)) dJ15_append_2 hH hS (by omega) (by omega) (fun H locs hH hS => ?_)
  have hkc : kc + c1 + c2_1 ≤ mc := by omega
  have hks : ks + n1 + n2_1 ≤ ms := by omega
  refine lv_pop (pc := 5) hx hb dJ15_append_5 (va_rf_cat _) ?_
  refine lv_aload_n (pc := 6) hx hb dJ15_append_6 rfl (lv_at hl 0 rfl) ?_
  exact g_aret (pc := 7) (v := (some l0)) hx hb hr (Or.inl ⟨_, rfl⟩) hlk hH hS hkc hks hf dJ15_append_7
theorem mJ15_append {l : Launch} {G : gG} {Rp : gM → gM → Nat → Prop} (hk : rOK Rp) {S S2 : gS} {r2 : Option Nat} {C N : Nat} {l0 : Nat} {l1 : Option Nat} (hf : fJ15_append G l0 l1 S = some (r2, S2, C, N)) : gMet l yJ15_append cJ15_append 2 (some (.object "java/lang/StringBuilder")) 5 152 G Rp [.ref l0, va_rf l1] S (some (va_rf r2)) S2 C N := by
  refine g_start (by decide) (by simp [lg_sl, va_rf_cat, cat_i, cat_j, cat_r]) (fun p e s m args below meth c ls hc hl hH => ?_)
  have hl : lv_has ls 2 [(0, .ref l0), (1, va_rf l1)] := by simpa [lv_args, va_rf_cat, cat_i, cat_j, cat_r] using hl
  exact wJ15_append_b0 hk hc l0 l1 S _ _ ls 0 0 C N (by omega) (by omega) hH va_S.rf (lv_sub hl [0, 1] rfl) hf
end
section
variable {r : Option Nat} {Sf : gS}
def fJ14_getValue_c19 (G : gG) (l0 : Nat) (S : gS) : gO (Option Nat) :=
  bd (rdR S l0 19 0) fun v1 =>
  some (v1, S, 0, 0)
theorem wJ14_getValue_c19_b0 (hk : rOK Rp) (hc : gC p s m args meth c G RJ14 "getValue" cJ14_getValue 1 (some (.array .byte))) (l0 : Nat) (S : gS) (H : Heap) (locs : List Loc) (ls : Array Slot) (kc ks C N : Nat) (hkc : kc + C ≤ mc) (hks : ks + N ≤ ms) (hH : hp G Rp S H) (hS : va_S G.2.2.2 s.heap H locs) (hl : lv_has ls 1 [(0, .ref l0)]) (hf : fJ14_getValue_c19 G l0 S = some (r, Sf, C, N)) : W p l e (gR 1 60 mc ms) s m args below meth c H locs kc ks (gQ below G Rp (some (va_rf r)) Sf args s mc ms) (F0 m 0 ls []) := by
  obtain ⟨hx, hb, hr, hlk, hml, hown, hts, hE, hA, hnm⟩ := hc
  have hc : gC p s m args meth c G RJ14 "getValue" cJ14_getValue 1 (some (.array .byte)) := ⟨hx, hb, hr, hlk, hml, hown, hts, hE, hA, hnm⟩
  unfold fJ14_getValue_c19 at hf
  refine lv_aload_n (pc := 0) hx hb dJ14_getValue_0 rfl (lv_at hl 0 rfl) ?_
  obtain ⟨v1, e1, hf⟩ := bdo hf
  refine g_get (pc := 1) (o := (some l0)) (a := l0) (ci := 19) (k := 0) (v := va_rf v1) (C := RJ15) (T := TJ15) (N := 4) hx hb hts hown hE hk hH in_J15 rfl (by decide) (hts _ q628) (fun _ h9 => h9) rfl (rdR_o e1) dJ14_getValue_1 ?_
  exact g_aret (pc := 4) (v := v1) hx hb hr (Or.inr ⟨_, rfl⟩) hlk hH hS hkc hks hf dJ14_getValue_4
theorem mJ14_getValue_c19 {l : Launch} {G : gG} {Rp : gM → gM → Nat → Prop} (hk : rOK Rp) {S S2 : gS} {r2 : Option Nat} {C N : Nat} {l0 : Nat} (hf : fJ14_getValue_c19 G l0 S = some (r2, S2, C, N)) : gMet l yJ14_getValue cJ14_getValue 1 (some (.array .byte)) 1 60 G Rp [.ref l0] S (some (va_rf r2)) S2 C N := by
  refine g_start (by decide) (Nat.le_of_ble_eq_true rfl) (fun p e s m args below meth c ls hc hl hH => ?_)
  have hl : lv_has ls 1 [(0, .ref l0)] := hl
  exact wJ14_getValue_c19_b0 hk hc l0 S _ _ ls 0 0 C N (by omega) (by omega) hH va_S.rf (lv_sub hl [0] rfl) hf
end
section
variable {r : Unit} {Sf : gS}
def fJ19_checkLength (G : gG) (l0 : Int32) (l1 : Int32) (S : gS) : gO Unit :=
  if l0 ≤ l1 then
    some ((), S, 0, 0)
  else
    none
theorem wJ19_checkLength_b0 (hk : rOK Rp) (hc : gC p s m args meth c G RJ19 "checkLength" cJ19_checkLength 2 (none)) (l0 : Int32) (l1 : Int32) (S : gS) (H : Heap) (locs : List Loc) (ls : Array Slot) (kc ks C N : Nat) (hkc : kc + C ≤ mc) (hks : ks + N ≤ ms) (hH : hp G Rp S H) (hS : va_S G.2.2.2 s.heap H locs) (hl : lv_has ls 2 [(0, .int l0), (1, .int l1)]) (hf : fJ19_checkLength G l0 l1 S = some (r, Sf, C, N)) : W p l e (gR 1 60 mc ms) s m args below meth c H locs kc ks (gQ below G Rp none Sf args s mc ms) (F0 m 0 ls []) := by
  obtain ⟨hx, hb, hr, hlk, hml, hown, hts, hE, hA, hnm⟩ := hc
  have hc : gC p s m args meth c G RJ19 "checkLength" cJ19_checkLength 2 (none) := ⟨hx, hb, hr, hlk, hml, hown, hts, hE, hA, hnm⟩
  unfold fJ19_checkLength at hf
  refine lv_iload_n (pc := 0) hx hb dJ19_checkLength_0 rfl (lv_at hl 1 rfl) ?_
  refine lv_iload_n (pc := 1) hx hb dJ19_checkLength_1 rfl (lv_at hl 0 rfl) ?_
  refine lv_icmp_ge (pc := 2) (tgt := 37) hx hb dJ19_checkLength_2 (by decide) (fun c1 => ?_) (fun c1 => ?_)
  · rw [if_pos c1] at hf
    exact g_vret (pc := 37) hx hb hr hlk hH hS hkc hks hf dJ19_checkLength_37
  · rw [if_neg c1] at hf
    exact absurd hf (fun h => by cases h)
theorem mJ19_checkLength {l : Launch} {G : gG} {Rp : gM → gM → Nat → Prop} (hk : rOK Rp) {S S2 : gS} {r2 : Unit} {C N : Nat} {l0 : Int32} {l1 : Int32} (hf : fJ19_checkLength G l0 l1 S = some (r2, S2, C, N)) : gMet l yJ19_checkLength cJ19_checkLength 2 (none) 1 60 G Rp [.int l0, .int l1] S none S2 C N := by
  refine g_start (by decide) (Nat.le_of_ble_eq_true rfl) (fun p e s m args below meth c ls hc hl hH => ?_)
  have hl : lv_has ls 2 [(0, .int l0), (1, .int l1)] := hl
  exact wJ19_checkLength_b0 hk hc l0 l1 S _ _ ls 0 0 C N (by omega) (by omega) hH va_S.rf (lv_sub hl [0, 1] rfl) hf
end
section
variable {r : Option Nat} {Sf : gS}
def fJ19_copyOfRangeByte (G : gG) (l0 : Option Nat) (l1 : Int32) (l2 : Int32) (S : gS) : gO (Option Nat) :=
  gb (fJ19_checkLength G l1 l2 S) fun _ S1 =>
  nwa S1 2 (l2 - l1) fun S2 =>
  bd l0 fun a3 =>
  bd (lenB G S2 a3) fun v4 =>
  bd (cpyK G S2 a3 l1 S1.2 (nI 0) (if (l2 - l1) < (v4 - l1) then (l2 - l1) else (v4 - l1))) fun S6 =>
  some ((some S1.2), S6, 0, 0)
theorem wJ19_copyOfRangeByte_b0 (hk : rOK Rp) (hc : gC p s m args meth c G RJ19 "copyOfRangeByte" cJ19_copyOfRangeByte 5 (some (.array .byte))) (l0 : Option Nat) (l1 : Int32) (l2 : Int32) (S : gS) (H : Heap) (locs : List Loc) (ls : Array Slot) (kc ks C N : Nat) (hkc : kc + C ≤ mc) (hks : ks + N ≤ ms) (hH : hp G Rp S H) (hS : va_S G.2.2.2 s.heap H locs) (hl : lv_has ls 5 [(0, va_rf l0), (1, .int l1), (2, .int l2)]) (hf : fJ19_copyOfRangeByte G l0 l1 l2 S = some (r, Sf, C, N)) : W p l e (gR 2 81 mc ms) s m args below meth c H locs kc ks (gQ below G Rp (some (va_rf r)) Sf args s mc ms) (F0 m 0 ls []) := by
  obtain ⟨hx, hb, hr, hlk, hml, hown, hts, hE, hA, hnm⟩ := hc
  have hc : gC p s m args meth c G RJ19 "copyOfRangeByte" cJ19_copyOfRangeByte 5 (some (.array .byte)) := ⟨hx, hb, hr, hlk, hml, hown, hts, hE, hA, hnm⟩
  unfold fJ19_copyOfRangeByte at hf
  refine lv_iload_n (pc := 0) hx hb dJ19_copyOfRangeByte_0 rfl (lv_at hl 1 rfl) ?_
  refine lv_iload_n (pc := 1) hx hb dJ19_copyOfRangeByte_1 rfl (lv_at hl 2 rfl) ?_
  obtain ⟨_, S1, c1, n1, c2_1, n2_1, e1, hf, hC1, hN1⟩ := gbo hf
  refine g_callS (pc := 2) (As := [.int l1, .int l2]) (rest := []) (st1 := []) hc (mJ19_checkLength hk (l0 := l1) (l1 := l2) e1) (va_cwS 2 hts (lw_S q818 q819 q122 q820) rfl rfl rfl jhdJ19_checkLength ⟨Nat.le_of_ble_eq_true rfl, Nat.le_of_ble_eq_true rfl⟩) rfl hl.1 rfl rfl (lv_room (Nat.le_of_ble_eq_true rfl)) dJ19_copyOfRangeByte_2 hH hS (by omega) (by omega) (fun H locs hH hS => ?_)
  have hkc : kc + c1 + c2_1 ≤ mc := by omega
  have hks : ks + n1 + n2_1 ≤ ms := by omega
  refine lv_iload_n (pc := 5) hx hb dJ19_copyOfRangeByte_5 rfl (lv_at hl 2 rfl) ?_
  refine lv_iload_n (pc := 6) hx hb dJ19_copyOfRangeByte_6 rfl (lv_at hl 1 rfl) ?_
  refine lv_isub (pc := 7) hx hb dJ19_copyOfRangeByte_7 ?_
  refine lv_istore_n (pc := 8) (i := 3) (lv' := [(3, .int (l2 - l1)), (0, va_rf l0), (1, .int l1), (2, .int l2)]) hx hb dJ19_copyOfRangeByte_8 rfl hl (by decide) rfl (fun ls hl => ?_)
  refine lv_iload_n (pc := 9) hx hb dJ19_copyOfRangeByte_9 rfl (lv_at hl 0 rfl) ?_
  obtain ⟨hn2, hi2, S2, c2_2, n2_2, eS2, hf, hC2, hN2⟩ := nwao hf
  refine g_newa (pc := 10) (atype := .byte) (ty := .byte) (t := 2) hx hb hts hE hA hk hH hS q387 rfl rfl rfl (fun _ h => by cases h) hn2 hi2 eS2 (by decide) (Nat.le_trans (by omega) hkc) (Nat.le_trans (by omega) hks) dJ19_copyOfRangeByte_10 (fun H hH hS => ?_)
  have hkc : kc + c1 + 1 + c2_2 ≤ mc := by omega
  have hks : ks + n1 + (l2 - l1).toNatClampNeg + n2_2 ≤ ms := by omega
  refine lv_astore (pc := 12) (i := 4) (lv' := [(4, .ref S1.2), (3, .int (l2 - l1)), (0, va_rf l0), (1, .int l1), (2, .int l2)]) hx hb dJ19_copyOfRangeByte_12 hl (by decide) rfl (fun ls hl => ?_)
  refine g_aload_n (pc := 14) (o := l0) hx hb dJ19_copyOfRangeByte_14 rfl (lv_at hl 2 rfl) ?_
  refine lv_iload_n (pc := 15) hx hb dJ19_copyOfRangeByte_15 rfl (lv_at hl 3 rfl) ?_
  refine lv_aload (pc := 16) hx hb dJ19_copyOfRangeByte_16 (lv_at hl 0 rfl) ?_
  refine lv_iconst (pc := 18) (v := nI 0) hx hb dJ19_copyOfRangeByte_18 rfl ?_
  refine g_aload_n (pc := 19) (o := l0) hx hb dJ19_copyOfRangeByte_19 rfl (lv_at hl 2 rfl) ?_
  obtain ⟨a3, ea3, hf⟩ := bdo hf
  obtain ⟨v4, e4, hf⟩ := bdo hf
  refine g_lenB (pc := 20) (o := l0) (a := a3) hx hb hE hk hH hS ea3 e4 dJ19_copyOfRangeByte_20 ?_
  refine lv_iload_n (pc := 21) hx hb dJ19_copyOfRangeByte_21 rfl (lv_at hl 3 rfl) ?_
  refine lv_isub (pc := 22) hx hb dJ19_copyOfRangeByte_22 ?_
  refine lv_iload_n (pc := 23) hx hb dJ19_copyOfRangeByte_23 rfl (lv_at hl 1 rfl) ?_
  refine va_mmin (pc := 24) hx hb (hml.trans hl.1.symm) hown (hts _ q682) (hts _ q683) (hts _ q121) (hts _ q684) (Nat.le_of_ble_eq_true rfl) (by simp [gR, va_rf_cat, cat_i, cat_j, cat_r]) (Nat.le_trans (by omega) hkc) (Nat.le_trans (by omega) hks) dJ19_copyOfRangeByte_24 ?_
  obtain ⟨S6, e6, hf⟩ := bdo hf
  refine g_cpyK (pc := 27) (o0 := l0) (a0 := a3) (o := (some S1.2)) (a := S1.2) hx hb (hml.trans hl.1.symm) hts hown hE hk hH hS q685 q520 q519 q116 ea3 rfl e6 (Nat.le_of_ble_eq_true rfl) (by simp [gR, va_rf_cat, cat_i, cat_j, cat_r]) dJ19_copyOfRangeByte_27 (fun H locs hH hS => ?_)
  refine lv_aload (pc := 30) hx hb dJ19_copyOfRangeByte_30 (lv_at hl 0 rfl) ?_
  exact g_aret (pc := 32) (v := (some S1.2)) hx hb hr (Or.inr ⟨_, rfl⟩) hlk hH hS hkc hks hf dJ19_copyOfRangeByte_32
theorem mJ19_copyOfRangeByte {l : Launch} {G : gG} {Rp : gM → gM → Nat → Prop} (hk : rOK Rp) {S S2 : gS} {r2 : Option Nat} {C N : Nat} {l0 : Option Nat} {l1 : Int32} {l2 : Int32} (hf : fJ19_copyOfRangeByte G l0 l1 l2 S = some (r2, S2, C, N)) : gMet l yJ19_copyOfRangeByte cJ19_copyOfRangeByte 5 (some (.array .byte)) 2 81 G Rp [va_rf l0, .int l1, .int l2] S (some (va_rf r2)) S2 C N := by
  refine g_start (by decide) (by simp [lg_sl, va_rf_cat, cat_i, cat_j, cat_r]) (fun p e s m args below meth c ls hc hl hH => ?_)
  have hl : lv_has ls 5 [(0, va_rf l0), (1, .int l1), (2, .int l2)] := by simpa [lv_args, va_rf_cat, cat_i, cat_j, cat_r] using hl
  exact wJ19_copyOfRangeByte_b0 hk hc l0 l1 l2 S _ _ ls 0 0 C N (by omega) (by omega) hH va_S.rf (lv_sub hl [0, 1, 2] rfl) hf
end
section
variable {r : Option Nat} {Sf : gS}
def fJ19_copyOfRange_b10 (G : gG) (l0 : Option Nat) (l1 : Int32) (l2 : Int32) (S : gS) : gO (Option Nat) :=
  gb (fJ19_copyOfRangeByte G l0 l1 l2 S) fun v1 S1 =>
  some (v1, S1, 0, 0)
theorem wJ19_copyOfRange_b10 (hk : rOK Rp) (hc : gC p s m args meth c G RJ19 "copyOfRange" cJ19_copyOfRange 3 (some (.array .byte))) (l0 : Option Nat) (l1 : Int32) (l2 : Int32) (S : gS) (H : Heap) (locs : List Loc) (ls : Array Slot) (kc ks C N : Nat) (hkc : kc + C ≤ mc) (hks : ks + N ≤ ms) (hH : hp G Rp S H) (hS : va_S G.2.2.2 s.heap H locs) (hl : lv_has ls 3 [(0, va_rf l0), (1, .int l1), (2, .int l2)]) (hf : fJ19_copyOfRange_b10 G l0 l1 l2 S = some (r, Sf, C, N)) : W p l e (gR 3 105 mc ms) s m args below meth c H locs kc ks (gQ below G Rp (some (va_rf r)) Sf args s mc ms) (F0 m 10 ls []) := by
  obtain ⟨hx, hb, hr, hlk, hml, hown, hts, hE, hA, hnm⟩ := hc
  have hc : gC p s m args meth c G RJ19 "copyOfRange" cJ19_copyOfRange 3 (some (.array .byte)) := ⟨hx, hb, hr, hlk, hml, hown, hts, hE, hA, hnm⟩
  unfold fJ19_copyOfRange_b10 at hf
  refine g_aload_n (pc := 10) (o := l0) hx hb dJ19_copyOfRange_10 rfl (lv_at hl 0 rfl) ?_
  refine lv_iload_n (pc := 11) hx hb dJ19_copyOfRange_11 rfl (lv_at hl 1 rfl) ?_
  refine lv_iload_n (pc := 12) hx hb dJ19_copyOfRange_12 rfl (lv_at hl 2 rfl) ?_
  obtain ⟨v1, S1, c1, n1, c2_1, n2_1, e1, hf, hC1, hN1⟩ := gbo hf
  refine g_callS (pc := 13) (As := [va_rf l0, .int l1, .int l2]) (rest := []) (st1 := [va_rf v1]) hc (mJ19_copyOfRangeByte hk (l0 := l0) (l1 := l1) (l2 := l2) e1) (va_cwS 3 hts (lw_S q815 q816 q122 q817) rfl rfl rfl jhdJ19_copyOfRangeByte ⟨Nat.le_of_ble_eq_true rfl, Nat.le_of_ble_eq_true rfl⟩) rfl hl.1 rfl rfl (lv_room (Nat.le_of_ble_eq_true rfl)) dJ19_copyOfRange_13 hH hS (by omega) (by omega) (fun H locs hH hS => ?_)
  have hkc : kc + c1 + c2_1 ≤ mc := by omega
  have hks : ks + n1 + n2_1 ≤ ms := by omega
  exact g_aret (pc := 16) (v := v1) hx hb hr (Or.inr ⟨_, rfl⟩) hlk hH hS hkc hks hf dJ19_copyOfRange_16
def fJ19_copyOfRange (G : gG) (l0 : Option Nat) (l1 : Int32) (l2 : Int32) (S : gS) : gO (Option Nat) :=
  if l1 = 0 then
    bd l0 fun a2 =>
    bd (lenB G S a2) fun v3 =>
    if l2 = v3 then
      clnB S a2 fun S5 =>
      bd (ckA S5 (some S.2) 2) fun _ =>
      some ((some S.2), S5, 0, 0)
    else
      fJ19_copyOfRange_b10 G l0 l1 l2 S
  else
    fJ19_copyOfRange_b10 G l0 l1 l2 S
theorem wJ19_copyOfRange_b0 (hk : rOK Rp) (hc : gC p s m args meth c G RJ19 "copyOfRange" cJ19_copyOfRange 3 (some (.array .byte))) (l0 : Option Nat) (l1 : Int32) (l2 : Int32) (S : gS) (H : Heap) (locs : List Loc) (ls : Array Slot) (kc ks C N : Nat) (hkc : kc + C ≤ mc) (hks : ks + N ≤ ms) (hH : hp G Rp S H) (hS : va_S G.2.2.2 s.heap H locs) (hl : lv_has ls 3 [(0, va_rf l0), (1, .int l1), (2, .int l2)]) (hf : fJ19_copyOfRange G l0 l1 l2 S = some (r, Sf, C, N)) : W p l e (gR 3 105 mc ms) s m args below meth c H locs kc ks (gQ below G Rp (some (va_rf r)) Sf args s mc ms) (F0 m 0 ls []) := by
  obtain ⟨hx, hb, hr, hlk, hml, hown, hts, hE, hA, hnm⟩ := hc
  have hc : gC p s m args meth c G RJ19 "copyOfRange" cJ19_copyOfRange 3 (some (.array .byte)) := ⟨hx, hb, hr, hlk, hml, hown, hts, hE, hA, hnm⟩
  unfold fJ19_copyOfRange at hf
  refine lv_iload_n (pc := 0) hx hb dJ19_copyOfRange_0 rfl (lv_at hl 1 rfl) ?_
  refine lv_if_ne (pc := 1) (tgt := 10) hx hb dJ19_copyOfRange_1 (by decide) (fun c1 => ?_) (fun c1 => ?_)
  · rw [if_neg c1] at hf
    exact wJ19_copyOfRange_b10 hk hc l0 l1 l2 S _ _ ls _ _ _ _ hkc hks hH hS (lv_sub hl [0, 1, 2] rfl) hf
  · rw [if_pos c1] at hf
    refine lv_iload_n (pc := 4) hx hb dJ19_copyOfRange_4 rfl (lv_at hl 2 rfl) ?_
    refine g_aload_n (pc := 5) (o := l0) hx hb dJ19_copyOfRange_5 rfl (lv_at hl 0 rfl) ?_
    obtain ⟨a2, ea2, hf⟩ := bdo hf
    obtain ⟨v3, e3, hf⟩ := bdo hf
    refine g_lenB (pc := 6) (o := l0) (a := a2) hx hb hE hk hH hS ea2 e3 dJ19_copyOfRange_6 ?_
    refine lv_icmp_eq (pc := 7) (tgt := 17) hx hb dJ19_copyOfRange_7 (by decide) (fun c4 => ?_) (fun c4 => ?_)
    · rw [if_pos c4] at hf
      refine g_aload_n (pc := 17) (o := l0) hx hb dJ19_copyOfRange_17 rfl (lv_at hl 0 rfl) ?_
      obtain ⟨n5, f5, ea5, hfit5, S5, c2_5, n2_5, eS5, hf, hC5, hN5⟩ := clnBo hf
      refine g_clnB (pc := 18) (o := l0) (a := a2) hx hb (hml.trans hl.1.symm) hts hown hE hA hk hH hS (hts _ q675) ea2 ea5 hfit5 eS5 (Nat.le_of_ble_eq_true rfl) (by simp [gR, va_rf_cat, cat_i, cat_j, cat_r]) (Nat.le_trans (by omega) hkc) (Nat.le_trans (by omega) hks) dJ19_copyOfRange_18 (fun H hH hS => ?_)
      have hkc : kc + 1 + c2_5 ≤ mc := by omega
      have hks : ks + n5 + n2_5 ≤ ms := by omega
      obtain ⟨_, e6, hf⟩ := bdo hf
      refine g_castA (pc := 21) (o := (some S.2)) (t := 2) hx hb hts hown hE hk hH q681 e6 dJ19_copyOfRange_21 ?_
      exact g_aret (pc := 24) (v := (some S.2)) hx hb hr (Or.inr ⟨_, rfl⟩) hlk hH hS hkc hks hf dJ19_copyOfRange_24
    · rw [if_neg c4] at hf
      exact wJ19_copyOfRange_b10 hk hc l0 l1 l2 S _ _ ls _ _ _ _ hkc hks hH hS (lv_sub hl [0, 1, 2] rfl) hf
theorem mJ19_copyOfRange {l : Launch} {G : gG} {Rp : gM → gM → Nat → Prop} (hk : rOK Rp) {S S2 : gS} {r2 : Option Nat} {C N : Nat} {l0 : Option Nat} {l1 : Int32} {l2 : Int32} (hf : fJ19_copyOfRange G l0 l1 l2 S = some (r2, S2, C, N)) : gMet l yJ19_copyOfRange cJ19_copyOfRange 3 (some (.array .byte)) 3 105 G Rp [va_rf l0, .int l1, .int l2] S (some (va_rf r2)) S2 C N := by
  refine g_start (by decide) (by simp [lg_sl, va_rf_cat, cat_i, cat_j, cat_r]) (fun p e s m args below meth c ls hc hl hH => ?_)
  have hl : lv_has ls 3 [(0, va_rf l0), (1, .int l1), (2, .int l2)] := by simpa [lv_args, va_rf_cat, cat_i, cat_j, cat_r] using hl
  exact wJ19_copyOfRange_b0 hk hc l0 l1 l2 S _ _ ls 0 0 C N (by omega) (by omega) hH va_S.rf (lv_sub hl [0, 1, 2] rfl) hf
end
section
variable {r : Unit} {Sf : gS}
def fJ9_init_2_b79 (G : gG) (l0 : Nat) (l3 : Option Nat) (l4 : Int32) (S : gS) : gO Unit :=
  bd (wr S l0 25 1 (.int (nI 1))) fun S1 =>
  gb (fJ19_copyOfRange G l3 (nI 0) (l4 <<< ((nI 1) &&& 31)) S1) fun v2 S2 =>
  bd (wr S2 l0 25 0 (va_rf v2)) fun S3 =>
  some ((), S3, 0, 0)
theorem wJ9_init_2_b79 (hk : rOK Rp) (hc : gC p s m args meth c G RJ9 "<init>" cJ9_init_2 5 (none)) (l0 : Nat) (l3 : Option Nat) (l4 : Int32) (S : gS) (H : Heap) (locs : List Loc) (ls : Array Slot) (kc ks C N : Nat) (hkc : kc + C ≤ mc) (hks : ks + N ≤ ms) (hH : hp G Rp S H) (hS : va_S G.2.2.2 s.heap H locs) (hl : lv_has ls 5 [(0, .ref l0), (3, va_rf l3), (4, .int l4)]) (hf : fJ9_init_2_b79 G l0 l3 l4 S = some (r, Sf, C, N)) : W p l e (gR 4 127 mc ms) s m args below meth c H locs kc ks (gQ below G Rp none Sf args s mc ms) (F0 m 79 ls []) := by
  obtain ⟨hx, hb, hr, hlk, hml, hown, hts, hE, hA, hnm⟩ := hc
  have hc : gC p s m args meth c G RJ9 "<init>" cJ9_init_2 5 (none) := ⟨hx, hb, hr, hlk, hml, hown, hts, hE, hA, hnm⟩
  unfold fJ9_init_2_b79 at hf
  refine lv_aload_n (pc := 79) hx hb dJ9_init_2_79 rfl (lv_at hl 0 rfl) ?_
  refine lv_iconst (pc := 80) (v := nI 1) hx hb dJ9_init_2_80 rfl ?_
  obtain ⟨S1, e1, hf⟩ := bdo hf
  refine g_putF (pc := 81) (o := (some l0)) (a := l0) (ci := 25) (k := 1) (v := .int (nI 1)) (C := RJ9) (T := TJ9) (N := 4) (ty := .byte) hx hb hts hown hE hk hH hS rfl in_J9 tyJ9_ok nmJ9 rfl (by decide) (hts _ q835) (fun _ h9 => h9) rfl hnm rfl rfl (by decide) (by decide) rfl e1 dJ9_init_2_81 (fun H locs hH hS => ?_)
  refine lv_aload_n (pc := 84) hx hb dJ9_init_2_84 rfl (lv_at hl 0 rfl) ?_
  refine g_aload_n (pc := 85) (o := l3) hx hb dJ9_init_2_85 rfl (lv_at hl 1 rfl) ?_
  refine lv_iconst (pc := 86) (v := nI 0) hx hb dJ9_init_2_86 rfl ?_
  refine lv_iload (pc := 87) hx hb dJ9_init_2_87 (lv_at hl 2 rfl) ?_
  refine lv_iconst (pc := 89) (v := nI 1) hx hb dJ9_init_2_89 rfl ?_
  refine lv_ishl (pc := 90) hx hb dJ9_init_2_90 ?_
  obtain ⟨v2, S2, c2, n2, c2_2, n2_2, e2, hf, hC2, hN2⟩ := gbo hf
  refine g_callS (pc := 91) (As := [va_rf l3, .int (nI 0), .int (l4 <<< ((nI 1) &&& 31))]) (rest := [.ref l0]) (st1 := [va_rf v2, .ref l0]) hc (mJ19_copyOfRange hk (l0 := l3) (l1 := (nI 0)) (l2 := (l4 <<< ((nI 1) &&& 31))) e2) (va_cwS 3 hts (lw_S q812 q813 q122 q814) rfl rfl rfl jhdJ19_copyOfRange ⟨Nat.le_of_ble_eq_true rfl, Nat.le_of_ble_eq_true rfl⟩) rfl hl.1 rfl rfl (lv_room (Nat.le_of_ble_eq_true rfl)) dJ9_init_2_91 hH hS (by omega) (by omega) (fun H locs hH hS => ?_)
  have hkc : kc + c2 + c2_2 ≤ mc := by omega
  have hks : ks + n2 + n2_2 ≤ ms := by omega
  obtain ⟨S3, e3, hf⟩ := bdo hf
  refine g_putF (pc := 94) (o := (some l0)) (a := l0) (ci := 25) (k := 0) (v := va_rf v2) (C := RJ9) (T := TJ9) (N := 4) (ty := tyJ9 0) hx hb hts hown hE hk hH hS rfl in_J9 tyJ9_ok nmJ9 rfl (by decide) (hts _ q834) (fun _ h9 => h9) rfl hnm rfl rfl (nar_ra _ _) (fit_ra _ _) rfl e3 dJ9_init_2_94 (fun H locs hH hS => ?_)
  exact g_vret (pc := 97) hx hb hr hlk hH hS hkc hks hf dJ9_init_2_97
def fJ9_init_2 (G : gG) (l0 : Nat) (l1 : Option Nat) (S : gS) : gO Unit :=
  bd l1 fun a3 =>
  bd (chk S a3 19) fun _ =>
  gb (fJ14_getValue_c19 G a3 S) fun v2 S2 =>
  bd (chk S2 a3 19) fun _ =>
  gb (fJ15_length G a3 S2) fun v4 S4 =>
  bd (chk S4 a3 19) fun _ =>
  gb (fJ14_isLatin1_c19 G a3 S4) fun v5 S5 =>
  if v5 = 0 then
    if (nI 1) = 0 then
      fJ9_init_2_b79 G l0 v2 v4 S5
    else
      bd (rdI S5 a3 19 2) fun v8 =>
      if v8 = 0 then
        fJ9_init_2_b79 G l0 v2 v4 S5
      else
        none
  else
    bd (wr S5 l0 25 1 (.int (nI 0))) fun S10 =>
    gb (fJ19_copyOfRange G v2 (nI 0) v4 S10) fun v11 S11 =>
    bd (wr S11 l0 25 0 (va_rf v11)) fun S12 =>
    some ((), S12, 0, 0)
theorem wJ9_init_2_b0 (hk : rOK Rp) (hc : gC p s m args meth c G RJ9 "<init>" cJ9_init_2 5 (none)) (l0 : Nat) (l1 : Option Nat) (S : gS) (H : Heap) (locs : List Loc) (ls : Array Slot) (kc ks C N : Nat) (hkc : kc + C ≤ mc) (hks : ks + N ≤ ms) (hH : hp G Rp S H) (hS : va_S G.2.2.2 s.heap H locs) (hl : lv_has ls 5 [(0, .ref l0), (1, va_rf l1)]) (hf : fJ9_init_2 G l0 l1 S = some (r, Sf, C, N)) : W p l e (gR 4 127 mc ms) s m args below meth c H locs kc ks (gQ below G Rp none Sf args s mc ms) (F0 m 0 ls []) := by
  obtain ⟨hx, hb, hr, hlk, hml, hown, hts, hE, hA, hnm⟩ := hc
  have hc : gC p s m args meth c G RJ9 "<init>" cJ9_init_2 5 (none) := ⟨hx, hb, hr, hlk, hml, hown, hts, hE, hA, hnm⟩
  unfold fJ9_init_2 at hf
  refine lv_aload_n (pc := 0) hx hb dJ9_init_2_0 rfl (lv_at hl 0 rfl) ?_
  refine W.objInit  hx hb hown (hts _ q797) (hts _ q169) (hts _ q170) rfl (by rw [hml]; exact hl.1) rfl dJ9_init_2_1 (Nat.le_of_ble_eq_true rfl) (Nat.le_of_ble_eq_true rfl) ?_
  refine W.eq (g2 := F0 m 4 ls []) rfl ?_
  refine g_aload_n (pc := 4) (o := l1) hx hb dJ9_init_2_4 rfl (lv_at hl 1 rfl) ?_
  obtain ⟨a3, ea3, hf⟩ := bdo hf
  obtain ⟨_, ek2, hf⟩ := bdo hf
  obtain ⟨v2, S2, c2, n2, c2_2, n2_2, e2, hf, hC2, hN2⟩ := gbo hf
  refine g_callVC (pc := 5) (o := l1) (b := a3) (As := []) (rest := []) (st1 := [va_rf v2]) (C := "java/lang/StringBuilder") hc (mJ14_getValue_c19 hk (l0 := a3) e2) (cwP 0 hts (lw_meth q802) rfl rfl rfl (hts _ q798) (hts _ q799) (hts _ q117) (hts _ q801) jhdJ14_getValue.2 ⟨Nat.le_of_ble_eq_true rfl, Nat.le_of_ble_eq_true rfl⟩) (g_recv hE hk hH (ci := 19) (q := (RJ15, TJ15, 4)) rfl (chk_o ek2).choose_spec) ea3 rfl hl.1 rfl rfl (lv_room (Nat.le_of_ble_eq_true rfl)) dJ9_init_2_5 hH hS (by omega) (by omega) (fun H locs hH hS => ?_)
  have hkc : kc + c2 + c2_2 ≤ mc := by omega
  have hks : ks + n2 + n2_2 ≤ ms := by omega
  refine g_astore_n (pc := 8) (i := 3) (o := v2) (lv' := [(3, va_rf v2), (0, .ref l0), (1, va_rf l1)]) hx hb dJ9_init_2_8 rfl hl (by decide) rfl (fun ls hl => ?_)
  refine g_aload_n (pc := 9) (o := l1) hx hb dJ9_init_2_9 rfl (lv_at hl 2 rfl) ?_
  obtain ⟨_, ek4, hf⟩ := bdo hf
  obtain ⟨v4, S4, c4, n4, c2_4, n2_4, e4, hf, hC4, hN4⟩ := gbo hf
  refine g_callU (pc := 10) (o := l1) (b := a3) (As := []) (rest := []) (st1 := [.int v4]) (x := ⟨"java/lang/AbstractStringBuilder", "length", "()I"⟩) (C := "java/lang/StringBuilder") hc (mJ15_length hk (l0 := a3) e4) (va_cwO (owner := "java/lang/AbstractStringBuilder") 0 hts (lw_app (lw_of6 q803 q805 q804 q806 q807 q118) (lw_meth q808)) rfl rfl rfl q810 (by decide +kernel) ⟨Nat.le_of_ble_eq_true rfl, Nat.le_of_ble_eq_true rfl⟩) (g_recv hE hk hH (ci := 19) (q := (RJ15, TJ15, 4)) rfl (chk_o ek4).choose_spec) ea3 rfl hl.1 rfl rfl (lv_room (Nat.le_of_ble_eq_true rfl)) dJ9_init_2_10 hH hS (by omega) (by omega) (fun H locs hH hS => ?_)
  have hkc : kc + c2 + c4 + c2_4 ≤ mc := by omega
  have hks : ks + n2 + n4 + n2_4 ≤ ms := by omega
  refine lv_istore (pc := 13) (i := 4) (lv' := [(4, .int v4), (3, va_rf v2), (0, .ref l0), (1, va_rf l1)]) hx hb dJ9_init_2_13 hl (by decide) (by simp [va_rf_cat, cat_i, cat_j, cat_r] <;> rfl) (fun ls hl => ?_)
  refine g_aload_n (pc := 15) (o := l1) hx hb dJ9_init_2_15 rfl (lv_at hl 3 rfl) ?_
  obtain ⟨_, ek5, hf⟩ := bdo hf
  obtain ⟨v5, S5, c5, n5, c2_5, n2_5, e5, hf, hC5, hN5⟩ := gbo hf
  refine g_callVC (pc := 16) (o := l1) (b := a3) (As := []) (rest := []) (st1 := [.int v5]) (C := "java/lang/StringBuilder") hc (mJ14_isLatin1_c19 hk (l0 := a3) e5) (cwP 0 hts (lw_meth q690) rfl rfl rfl (hts _ q811) (hts _ q687) (hts _ q117) (hts _ q689) jhdJ14_isLatin1.2 ⟨Nat.le_of_ble_eq_true rfl, Nat.le_of_ble_eq_true rfl⟩) (g_recv hE hk hH (ci := 19) (q := (RJ15, TJ15, 4)) rfl (chk_o ek5).choose_spec) ea3 rfl hl.1 rfl rfl (lv_room (Nat.le_of_ble_eq_true rfl)) dJ9_init_2_16 hH hS (by omega) (by omega) (fun H locs hH hS => ?_)
  have hkc : kc + c2 + c4 + c5 + c2_5 ≤ mc := by omega
  have hks : ks + n2 + n4 + n5 + n2_5 ≤ ms := by omega
  refine lv_if_eq (pc := 19) (tgt := 41) hx hb dJ9_init_2_19 (by decide) (fun c6 => ?_) (fun c6 => ?_)
  · rw [if_pos c6] at hf
    refine g_compact (pc := 41) hx hb hE hS hown (hts _ q725) dJ9_init_2_41 ?_
    refine lv_if_eq (pc := 44) (tgt := 79) hx hb dJ9_init_2_44 (by decide) (fun c7 => ?_) (fun c7 => ?_)
    · rw [if_pos c7] at hf
      exact wJ9_init_2_b79 hk hc l0 v2 v4 S5 _ _ ls _ _ _ _ hkc hks hH hS (lv_sub hl [2, 1, 0] rfl) hf
    · rw [if_neg c7] at hf
      refine g_aload_n (pc := 47) (o := l1) hx hb dJ9_init_2_47 rfl (lv_at hl 3 rfl) ?_
      obtain ⟨v8, e8, hf⟩ := bdo hf
      refine g_get (pc := 48) (o := l1) (a := a3) (ci := 19) (k := 2) (v := .int v8) (C := RJ15) (T := TJ15) (N := 4) hx hb hts hown hE hk hH in_J15 rfl (by decide) (hts _ q630) (fun _ h9 => h9) ea3 (rdI_o e8) dJ9_init_2_48 ?_
      refine lv_if_eq (pc := 51) (tgt := 79) hx hb dJ9_init_2_51 (by decide) (fun c9 => ?_) (fun c9 => ?_)
      · rw [if_pos c9] at hf
        exact wJ9_init_2_b79 hk hc l0 v2 v4 S5 _ _ ls _ _ _ _ hkc hks hH hS (lv_sub hl [2, 1, 0] rfl) hf
      · rw [if_neg c9] at hf
        refine lv_aload_n (pc := 54) hx hb dJ9_init_2_54 rfl (lv_at hl 2 rfl) ?_
        refine g_aload_n (pc := 55) (o := v2) hx hb dJ9_init_2_55 rfl (lv_at hl 1 rfl) ?_
        refine lv_iconst (pc := 56) (v := nI 0) hx hb dJ9_init_2_56 rfl ?_
        refine lv_iload (pc := 57) hx hb dJ9_init_2_57 (lv_at hl 0 rfl) ?_
        exact absurd hf (fun h => by cases h)
  · rw [if_neg c6] at hf
    refine lv_aload_n (pc := 22) hx hb dJ9_init_2_22 rfl (lv_at hl 2 rfl) ?_
    refine lv_iconst (pc := 23) (v := nI 0) hx hb dJ9_init_2_23 rfl ?_
    obtain ⟨S10, e10, hf⟩ := bdo hf
    refine g_putF (pc := 24) (o := (some l0)) (a := l0) (ci := 25) (k := 1) (v := .int (nI 0)) (C := RJ9) (T := TJ9) (N := 4) (ty := .byte) hx hb hts hown hE hk hH hS rfl in_J9 tyJ9_ok nmJ9 rfl (by decide) (hts _ q835) (fun _ h9 => h9) rfl hnm rfl rfl (by decide) (by decide) rfl e10 dJ9_init_2_24 (fun H locs hH hS => ?_)
    refine lv_aload_n (pc := 27) hx hb dJ9_init_2_27 rfl (lv_at hl 2 rfl) ?_
    refine g_aload_n (pc := 28) (o := v2) hx hb dJ9_init_2_28 rfl (lv_at hl 1 rfl) ?_
    refine lv_iconst (pc := 29) (v := nI 0) hx hb dJ9_init_2_29 rfl ?_
    refine lv_iload (pc := 30) hx hb dJ9_init_2_30 (lv_at hl 0 rfl) ?_
    obtain ⟨v11, S11, c11, n11, c2_11, n2_11, e11, hf, hC11, hN11⟩ := gbo hf
    refine g_callS (pc := 32) (As := [va_rf v2, .int (nI 0), .int v4]) (rest := [.ref l0]) (st1 := [va_rf v11, .ref l0]) hc (mJ19_copyOfRange hk (l0 := v2) (l1 := (nI 0)) (l2 := v4) e11) (va_cwS 3 hts (lw_S q812 q813 q122 q814) rfl rfl rfl jhdJ19_copyOfRange ⟨Nat.le_of_ble_eq_true rfl, Nat.le_of_ble_eq_true rfl⟩) rfl hl.1 rfl rfl (lv_room (Nat.le_of_ble_eq_true rfl)) dJ9_init_2_32 hH hS (by omega) (by omega) (fun H locs hH hS => ?_)
    have hkc : kc + c2 + c4 + c5 + c11 + c2_11 ≤ mc := by omega
    have hks : ks + n2 + n4 + n5 + n11 + n2_11 ≤ ms := by omega
    obtain ⟨S12, e12, hf⟩ := bdo hf
    refine g_putF (pc := 35) (o := (some l0)) (a := l0) (ci := 25) (k := 0) (v := va_rf v11) (C := RJ9) (T := TJ9) (N := 4) (ty := tyJ9 0) hx hb hts hown hE hk hH hS rfl in_J9 tyJ9_ok nmJ9 rfl (by decide) (hts _ q834) (fun _ h9 => h9) rfl hnm rfl rfl (nar_ra _ _) (fit_ra _ _) rfl e12 dJ9_init_2_35 (fun H locs hH hS => ?_)
    refine lv_goto (pc := 38) (tgt := 97) hx hb dJ9_init_2_38 (by decide) ?_
    exact g_vret (pc := 97) hx hb hr hlk hH hS hkc hks hf dJ9_init_2_97
theorem mJ9_init_2 {l : Launch} {G : gG} {Rp : gM → gM → Nat → Prop} (hk : rOK Rp) {S S2 : gS} {r2 : Unit} {C N : Nat} {l0 : Nat} {l1 : Option Nat} {l2 : Option Nat} (hf : fJ9_init_2 G l0 l1 S = some (r2, S2, C, N)) : gMet l yJ9_init_2 cJ9_init_2 5 (none) 4 127 G Rp [.ref l0, va_rf l1, va_rf l2] S none S2 C N := by
  refine g_start (by decide) (by simp [lg_sl, va_rf_cat, cat_i, cat_j, cat_r]) (fun p e s m args below meth c ls hc hl hH => ?_)
  have hl : lv_has ls 5 [(0, .ref l0), (1, va_rf l1), (2, va_rf l2)] := by simpa [lv_args, va_rf_cat, cat_i, cat_j, cat_r] using hl
  exact wJ9_init_2_b0 hk hc l0 l1 S _ _ ls 0 0 C N (by omega) (by omega) hH va_S.rf (lv_sub hl [0, 1] rfl) hf
end
section
variable {r : Unit} {Sf : gS}
def fJ9_init (G : gG) (l0 : Nat) (l1 : Option Nat) (S : gS) : gO Unit :=
  gb (fJ9_init_2 G l0 l1 S) fun _ S1 =>
  some ((), S1, 0, 0)
theorem wJ9_init_b0 (hk : rOK Rp) (hc : gC p s m args meth c G RJ9 "<init>" cJ9_init 2 (none)) (l0 : Nat) (l1 : Option Nat) (S : gS) (H : Heap) (locs : List Loc) (ls : Array Slot) (kc ks C N : Nat) (hkc : kc + C ≤ mc) (hks : ks + N ≤ ms) (hH : hp G Rp S H) (hS : va_S G.2.2.2 s.heap H locs) (hl : lv_has ls 2 [(0, .ref l0), (1, va_rf l1)]) (hf : fJ9_init G l0 l1 S = some (r, Sf, C, N)) : W p l e (gR 5 151 mc ms) s m args below meth c H locs kc ks (gQ below G Rp none Sf args s mc ms) (F0 m 0 ls []) := by
  obtain ⟨hx, hb, hr, hlk, hml, hown, hts, hE, hA, hnm⟩ := hc
  have hc : gC p s m args meth c G RJ9 "<init>" cJ9_init 2 (none) := ⟨hx, hb, hr, hlk, hml, hown, hts, hE, hA, hnm⟩
  unfold fJ9_init at hf
  refine lv_aload_n (pc := 0) hx hb dJ9_init_0 rfl (lv_at hl 0 rfl) ?_
  refine g_aload_n (pc := 1) (o := l1) hx hb dJ9_init_1 rfl (lv_at hl 1 rfl) ?_
  refine lv_null (pc := 2) hx hb dJ9_init_2 ?_
  obtain ⟨_, S1, c1, n1, c2_1, n2_1, e1, hf, hC1, hN1⟩ := gbo hf
  refine g_callI (pc := 3) (o := (some l0)) (b := l0) (As := [va_rf l1, va_rf none]) (rest := []) hc (mJ9_init_2 hk (l0 := l0) (l1 := l1) (l2 := none) e1) (cwI 2 hts (lw_meth q796) rfl rfl rfl (hts _ q110) (hts _ q794) (hts _ q795) rfl jhdiJ9_init_2 ⟨Nat.le_of_ble_eq_true rfl, Nat.le_of_ble_eq_true rfl⟩) rfl rfl hl.1 rfl (lv_room (Nat.le_of_ble_eq_true rfl)) dJ9_init_3 hH hS (by omega) (by omega) (fun H locs hH hS => ?_)
  have hkc : kc + c1 + c2_1 ≤ mc := by omega
  have hks : ks + n1 + n2_1 ≤ ms := by omega
  exact g_vret (pc := 6) hx hb hr hlk hH hS hkc hks hf dJ9_init_6
theorem mJ9_init {l : Launch} {G : gG} {Rp : gM → gM → Nat → Prop} (hk : rOK Rp) {S S2 : gS} {r2 : Unit} {C N : Nat} {l0 : Nat} {l1 : Option Nat} (hf : fJ9_init G l0 l1 S = some (r2, S2, C, N)) : gMet l yJ9_init cJ9_init 2 (none) 5 151 G Rp [.ref l0, va_rf l1] S none S2 C N := by
  refine g_start (by decide) (by simp [lg_sl, va_rf_cat, cat_i, cat_j, cat_r]) (fun p e s m args below meth c ls hc hl hH => ?_)
  have hl : lv_has ls 2 [(0, .ref l0), (1, va_rf l1)] := by simpa [lv_args, va_rf_cat, cat_i, cat_j, cat_r] using hl
  exact wJ9_init_b0 hk hc l0 l1 S _ _ ls 0 0 C N (by omega) (by omega) hH va_S.rf (lv_sub hl [0, 1] rfl) hf
end
section
variable {r : Option Nat} {Sf : gS}
def fJ15_toString (G : gG) (l0 : Nat) (S : gS) : gO (Option Nat) :=
  nw S (cO 25 [.null, .int 0, .int 0, .int 0]) 4 fun S1 =>
  gb (fJ9_init G S.2 (some l0) S1) fun _ S2 =>
  some ((some S.2), S2, 0, 0)
theorem wJ15_toString_b0 (hk : rOK Rp) (hc : gC p s m args meth c G RJ15 "toString" cJ15_toString 1 (some (.object "java/lang/String"))) (l0 : Nat) (S : gS) (H : Heap) (locs : List Loc) (ls : Array Slot) (kc ks C N : Nat) (hkc : kc + C ≤ mc) (hks : ks + N ≤ ms) (hH : hp G Rp S H) (hS : va_S G.2.2.2 s.heap H locs) (hl : lv_has ls 1 [(0, .ref l0)]) (hf : fJ15_toString G l0 S = some (r, Sf, C, N)) : W p l e (gR 6 172 mc ms) s m args below meth c H locs kc ks (gQ below G Rp (some (va_rf r)) Sf args s mc ms) (F0 m 0 ls []) := by
  obtain ⟨hx, hb, hr, hlk, hml, hown, hts, hE, hA, hnm⟩ := hc
  have hc : gC p s m args meth c G RJ15 "toString" cJ15_toString 1 (some (.object "java/lang/String")) := ⟨hx, hb, hr, hlk, hml, hown, hts, hE, hA, hnm⟩
  unfold fJ15_toString at hf
  obtain ⟨S1, c2_1, n2_1, eS1, hf, hC1, hN1⟩ := nwo hf
  refine g_newo (pc := 0) (ci := 25) (C := RJ9) (T := TJ9) (N := 4) (fs := [.null, .int 0, .int 0, .int 0]) hx hb hts hown hE hA hk hH hS in_J9 tyJ9_ok q790 q386 q110 rfl (fun j hj => by rcases (show j = 0 ∨ j = 1 ∨ j = 2 ∨ j = 3 by omega) with rfl | rfl | rfl | rfl <;> rfl) eS1 (Nat.le_trans (by omega) hkc) (Nat.le_trans (by omega) hks) dJ15_toString_0 (fun H hH hS => ?_)
  have hkc : kc + 1 + c2_1 ≤ mc := by omega
  have hks : ks + 4 + n2_1 ≤ ms := by omega
  refine lv_dup (pc := 3) hx hb dJ15_toString_3 rfl ?_
  refine lv_aload_n (pc := 4) hx hb dJ15_toString_4 rfl (lv_at hl 0 rfl) ?_
  obtain ⟨_, S2, c2, n2, c2_2, n2_2, e2, hf, hC2, hN2⟩ := gbo hf
  refine g_callI (pc := 5) (o := (some S.2)) (b := S.2) (As := [.ref l0]) (rest := [.ref S.2]) hc (mJ9_init hk (l0 := S.2) (l1 := (some l0)) e2) (cwI 1 hts (lw_meth q793) rfl rfl rfl (hts _ q110) (hts _ q791) (hts _ q792) rfl jhdiJ9_init ⟨Nat.le_of_ble_eq_true rfl, Nat.le_of_ble_eq_true rfl⟩) rfl rfl hl.1 rfl (lv_room (Nat.le_of_ble_eq_true rfl)) dJ15_toString_5 hH hS (by omega) (by omega) (fun H locs hH hS => ?_)
  have hkc : kc + 1 + c2 + c2_2 ≤ mc := by omega
  have hks : ks + 4 + n2 + n2_2 ≤ ms := by omega
  exact g_aret (pc := 8) (v := (some S.2)) hx hb hr (Or.inl ⟨_, rfl⟩) hlk hH hS hkc hks hf dJ15_toString_8
theorem mJ15_toString {l : Launch} {G : gG} {Rp : gM → gM → Nat → Prop} (hk : rOK Rp) {S S2 : gS} {r2 : Option Nat} {C N : Nat} {l0 : Nat} (hf : fJ15_toString G l0 S = some (r2, S2, C, N)) : gMet l yJ15_toString cJ15_toString 1 (some (.object "java/lang/String")) 6 172 G Rp [.ref l0] S (some (va_rf r2)) S2 C N := by
  refine g_start (by decide) (Nat.le_of_ble_eq_true rfl) (fun p e s m args below meth c ls hc hl hH => ?_)
  have hl : lv_has ls 1 [(0, .ref l0)] := hl
  exact wJ15_toString_b0 hk hc l0 S _ _ ls 0 0 C N (by omega) (by omega) hH va_S.rf (lv_sub hl [0] rfl) hf
end
section
variable {r : Int32} {Sf : gS}
def fJ26_hasNext (G : gG) (l0 : Nat) (S : gS) : gO Int32 :=
  bd (rdI S l0 21 0) fun v1 =>
  bd (rdR S l0 21 3) fun v2 =>
  bd v2 fun a3 =>
  bd (rdI S a3 15 2) fun v4 =>
  if v1 = v4 then
    zg (nI 0) S
  else
    zg (nI 1) S
theorem wJ26_hasNext_b0 (hk : rOK Rp) (hc : gC p s m args meth c G RJ26 "hasNext" cJ26_hasNext 1 (some .boolean)) (l0 : Nat) (S : gS) (H : Heap) (locs : List Loc) (ls : Array Slot) (kc ks C N : Nat) (hkc : kc + C ≤ mc) (hks : ks + N ≤ ms) (hH : hp G Rp S H) (hS : va_S G.2.2.2 s.heap H locs) (hl : lv_has ls 1 [(0, .ref l0)]) (hf : fJ26_hasNext G l0 S = some (r, Sf, C, N)) : W p l e (gR 1 60 mc ms) s m args below meth c H locs kc ks (gQ below G Rp (some (.int r)) Sf args s mc ms) (F0 m 0 ls []) := by
  obtain ⟨hx, hb, hr, hlk, hml, hown, hts, hE, hA, hnm⟩ := hc
  have hc : gC p s m args meth c G RJ26 "hasNext" cJ26_hasNext 1 (some .boolean) := ⟨hx, hb, hr, hlk, hml, hown, hts, hE, hA, hnm⟩
  unfold fJ26_hasNext at hf
  refine lv_aload_n (pc := 0) hx hb dJ26_hasNext_0 rfl (lv_at hl 0 rfl) ?_
  obtain ⟨v1, e1, hf⟩ := bdo hf
  refine g_get (pc := 1) (o := (some l0)) (a := l0) (ci := 21) (k := 0) (v := .int v1) (C := RJ26) (T := TJ26) (N := 4) hx hb hts hown hE hk hH in_J26 rfl (by decide) (hts _ q1304) (fun _ h9 => h9) rfl (rdI_o e1) dJ26_hasNext_1 ?_
  refine lv_aload_n (pc := 4) hx hb dJ26_hasNext_4 rfl (lv_at hl 0 rfl) ?_
  obtain ⟨v2, e2, hf⟩ := bdo hf
  refine g_get (pc := 5) (o := (some l0)) (a := l0) (ci := 21) (k := 3) (v := va_rf v2) (C := RJ26) (T := TJ26) (N := 4) hx hb hts hown hE hk hH in_J26 rfl (by decide) (hts _ q1307) (fun _ h9 => h9) rfl (rdR_o e2) dJ26_hasNext_5 ?_
  obtain ⟨a3, ea3, hf⟩ := bdo hf
  obtain ⟨v4, e4, hf⟩ := bdo hf
  refine g_getN (pc := 8) (o := v2) (a := a3) (ci := 15) (k := 2) (v := .int v4) (C := RJ2) (T := TJ2) (N := 3) hx hb hts hown hE hk hH in_J2 rfl (by decide) (va_Nw.use rfl (hE.2.1.2.2.1 _ _ _ _ _ _ q193)) (fun _ h9 => h9) ea3 (rdI_o e4) dJ26_hasNext_8 ?_
  refine lv_icmp_eq (pc := 11) (tgt := 18) hx hb dJ26_hasNext_11 (by decide) (fun c5 => ?_) (fun c5 => ?_)
  · rw [if_pos c5] at hf
    refine lv_iconst (pc := 18) (v := nI 0) hx hb dJ26_hasNext_18 rfl ?_
    exact g_zret (pc := 19) hx hb hr hlk hH hS hkc hks hf dJ26_hasNext_19
  · rw [if_neg c5] at hf
    refine lv_iconst (pc := 14) (v := nI 1) hx hb dJ26_hasNext_14 rfl ?_
    refine lv_goto (pc := 15) (tgt := 19) hx hb dJ26_hasNext_15 (by decide) ?_
    exact g_zret (pc := 19) hx hb hr hlk hH hS hkc hks hf dJ26_hasNext_19
theorem mJ26_hasNext {l : Launch} {G : gG} {Rp : gM → gM → Nat → Prop} (hk : rOK Rp) {S S2 : gS} {r2 : Int32} {C N : Nat} {l0 : Nat} (hf : fJ26_hasNext G l0 S = some (r2, S2, C, N)) : gMet l yJ26_hasNext cJ26_hasNext 1 (some .boolean) 1 60 G Rp [.ref l0] S (some (.int r2)) S2 C N := by
  refine g_start (by decide) (Nat.le_of_ble_eq_true rfl) (fun p e s m args below meth c ls hc hl hH => ?_)
  have hl : lv_has ls 1 [(0, .ref l0)] := hl
  exact wJ26_hasNext_b0 hk hc l0 S _ _ ls 0 0 C N (by omega) (by omega) hH va_S.rf (lv_sub hl [0] rfl) hf
end
section
variable {r : Unit} {Sf : gS}
def fJ26_checkForComodification (G : gG) (l0 : Nat) (S : gS) : gO Unit :=
  bd (rdR S l0 21 3) fun v1 =>
  bd v1 fun a2 =>
  bd (rdI S a2 15 0) fun v3 =>
  bd (rdI S l0 21 2) fun v4 =>
  if v3 = v4 then
    some ((), S, 0, 0)
  else
    none
theorem wJ26_checkForComodification_b0 (hk : rOK Rp) (hc : gC p s m args meth c G RJ26 "checkForComodification" cJ26_checkForComodification 1 (none)) (l0 : Nat) (S : gS) (H : Heap) (locs : List Loc) (ls : Array Slot) (kc ks C N : Nat) (hkc : kc + C ≤ mc) (hks : ks + N ≤ ms) (hH : hp G Rp S H) (hS : va_S G.2.2.2 s.heap H locs) (hl : lv_has ls 1 [(0, .ref l0)]) (hf : fJ26_checkForComodification G l0 S = some (r, Sf, C, N)) : W p l e (gR 1 60 mc ms) s m args below meth c H locs kc ks (gQ below G Rp none Sf args s mc ms) (F0 m 0 ls []) := by
  obtain ⟨hx, hb, hr, hlk, hml, hown, hts, hE, hA, hnm⟩ := hc
  have hc : gC p s m args meth c G RJ26 "checkForComodification" cJ26_checkForComodification 1 (none) := ⟨hx, hb, hr, hlk, hml, hown, hts, hE, hA, hnm⟩
  unfold fJ26_checkForComodification at hf
  refine lv_aload_n (pc := 0) hx hb dJ26_checkForComodification_0 rfl (lv_at hl 0 rfl) ?_
  obtain ⟨v1, e1, hf⟩ := bdo hf
  refine g_get (pc := 1) (o := (some l0)) (a := l0) (ci := 21) (k := 3) (v := va_rf v1) (C := RJ26) (T := TJ26) (N := 4) hx hb hts hown hE hk hH in_J26 rfl (by decide) (hts _ q1307) (fun _ h9 => h9) rfl (rdR_o e1) dJ26_checkForComodification_1 ?_
  obtain ⟨a2, ea2, hf⟩ := bdo hf
  obtain ⟨v3, e3, hf⟩ := bdo hf
  refine g_get (pc := 4) (o := v1) (a := a2) (ci := 15) (k := 0) (v := .int v3) (C := RJ2) (T := TJ2) (N := 3) hx hb hts hown hE hk hH in_J2 rfl (by decide) (hts _ q198) (fun x h9 => u_same (hts _ q199) x h9) ea2 (rdI_o e3) dJ26_checkForComodification_4 ?_
  refine lv_aload_n (pc := 7) hx hb dJ26_checkForComodification_7 rfl (lv_at hl 0 rfl) ?_
  obtain ⟨v4, e4, hf⟩ := bdo hf
  refine g_get (pc := 8) (o := (some l0)) (a := l0) (ci := 21) (k := 2) (v := .int v4) (C := RJ26) (T := TJ26) (N := 4) hx hb hts hown hE hk hH in_J26 rfl (by decide) (hts _ q1306) (fun _ h9 => h9) rfl (rdI_o e4) dJ26_checkForComodification_8 ?_
  refine lv_icmp_eq (pc := 11) (tgt := 22) hx hb dJ26_checkForComodification_11 (by decide) (fun c5 => ?_) (fun c5 => ?_)
  · rw [if_pos c5] at hf
    exact g_vret (pc := 22) hx hb hr hlk hH hS hkc hks hf dJ26_checkForComodification_22
  · rw [if_neg c5] at hf
    exact absurd hf (fun h => by cases h)
theorem mJ26_checkForComodification {l : Launch} {G : gG} {Rp : gM → gM → Nat → Prop} (hk : rOK Rp) {S S2 : gS} {r2 : Unit} {C N : Nat} {l0 : Nat} (hf : fJ26_checkForComodification G l0 S = some (r2, S2, C, N)) : gMet l yJ26_checkForComodification cJ26_checkForComodification 1 (none) 1 60 G Rp [.ref l0] S none S2 C N := by
  refine g_start (by decide) (Nat.le_of_ble_eq_true rfl) (fun p e s m args below meth c ls hc hl hH => ?_)
  have hl : lv_has ls 1 [(0, .ref l0)] := hl
  exact wJ26_checkForComodification_b0 hk hc l0 S _ _ ls 0 0 C N (by omega) (by omega) hH va_S.rf (lv_sub hl [0] rfl) hf
end
section
variable {r : Option Nat} {Sf : gS}
def fJ26_next (G : gG) (l0 : Nat) (S : gS) : gO (Option Nat) :=
  bd (chk S l0 21) fun _ =>
  gb (fJ26_checkForComodification G l0 S) fun _ S1 =>
  bd (rdI S1 l0 21 0) fun v2 =>
  bd (rdR S1 l0 21 3) fun v3 =>
  bd v3 fun a4 =>
  bd (rdI S1 a4 15 2) fun v5 =>
  if v2 < v5 then
    bd (rdR S1 l0 21 3) fun v7 =>
    bd v7 fun a8 =>
    bd (rdR S1 a8 15 1) fun v9 =>
    bd v9 fun a10 =>
    bd (lenQ G S1 a10) fun v11 =>
    if v2 < v11 then
      bd (wr S1 l0 21 0 (.int (v2 + (nI 1)))) fun S13 =>
      bd (wr S13 l0 21 1 (.int v2)) fun S14 =>
      bd (rdAq S14 a10 5 v2) fun v15 =>
      some (v15, S14, 0, 0)
    else
      none
  else
    none
theorem wJ26_next_b0 (hk : rOK Rp) (hc : gC p s m args meth c G RJ26 "next" cJ26_next 3 (some (.object "java/lang/Object"))) (l0 : Nat) (S : gS) (H : Heap) (locs : List Loc) (ls : Array Slot) (kc ks C N : Nat) (hkc : kc + C ≤ mc) (hks : ks + N ≤ ms) (hH : hp G Rp S H) (hS : va_S G.2.2.2 s.heap H locs) (hl : lv_has ls 3 [(0, .ref l0)]) (hf : fJ26_next G l0 S = some (r, Sf, C, N)) : W p l e (gR 2 80 mc ms) s m args below meth c H locs kc ks (gQ below G Rp (some (va_rf r)) Sf args s mc ms) (F0 m 0 ls []) := by
  obtain ⟨hx, hb, hr, hlk, hml, hown, hts, hE, hA, hnm⟩ := hc
  have hc : gC p s m args meth c G RJ26 "next" cJ26_next 3 (some (.object "java/lang/Object")) := ⟨hx, hb, hr, hlk, hml, hown, hts, hE, hA, hnm⟩
  unfold fJ26_next at hf
  refine lv_aload_n (pc := 0) hx hb dJ26_next_0 rfl (lv_at hl 0 rfl) ?_
  obtain ⟨_, ek1, hf⟩ := bdo hf
  obtain ⟨_, S1, c1, n1, c2_1, n2_1, e1, hf, hC1, hN1⟩ := gbo hf
  refine g_callV (pc := 1) (o := (some l0)) (b := l0) (As := []) (rest := []) (st1 := []) hc (mJ26_checkForComodification hk (l0 := l0) e1) (cwV 0 hts (lw_V q1477 q1478 q1479 q135 q1482) rfl rfl rfl jhdJ26_checkForComodification ⟨Nat.le_of_ble_eq_true rfl, Nat.le_of_ble_eq_true rfl⟩) (g_recv hE hk hH (ci := 21) (q := (RJ26, TJ26, 4)) rfl (chk_o ek1).choose_spec) rfl rfl hl.1 rfl rfl (lv_room (Nat.le_of_ble_eq_true rfl)) dJ26_next_1 hH hS (by omega) (by omega) (fun H locs hH hS => ?_)
  have hkc : kc + c1 + c2_1 ≤ mc := by omega
  have hks : ks + n1 + n2_1 ≤ ms := by omega
  refine lv_aload_n (pc := 4) hx hb dJ26_next_4 rfl (lv_at hl 0 rfl) ?_
  obtain ⟨v2, e2, hf⟩ := bdo hf
  refine g_get (pc := 5) (o := (some l0)) (a := l0) (ci := 21) (k := 0) (v := .int v2) (C := RJ26) (T := TJ26) (N := 4) hx hb hts hown hE hk hH in_J26 rfl (by decide) (hts _ q1304) (fun _ h9 => h9) rfl (rdI_o e2) dJ26_next_5 ?_
  refine lv_istore_n (pc := 8) (i := 1) (lv' := [(1, .int v2), (0, .ref l0)]) hx hb dJ26_next_8 rfl hl (by decide) rfl (fun ls hl => ?_)
  refine lv_iload_n (pc := 9) hx hb dJ26_next_9 rfl (lv_at hl 0 rfl) ?_
  refine lv_aload_n (pc := 10) hx hb dJ26_next_10 rfl (lv_at hl 1 rfl) ?_
  obtain ⟨v3, e3, hf⟩ := bdo hf
  refine g_get (pc := 11) (o := (some l0)) (a := l0) (ci := 21) (k := 3) (v := va_rf v3) (C := RJ26) (T := TJ26) (N := 4) hx hb hts hown hE hk hH in_J26 rfl (by decide) (hts _ q1307) (fun _ h9 => h9) rfl (rdR_o e3) dJ26_next_11 ?_
  obtain ⟨a4, ea4, hf⟩ := bdo hf
  obtain ⟨v5, e5, hf⟩ := bdo hf
  refine g_getN (pc := 14) (o := v3) (a := a4) (ci := 15) (k := 2) (v := .int v5) (C := RJ2) (T := TJ2) (N := 3) hx hb hts hown hE hk hH in_J2 rfl (by decide) (va_Nw.use rfl (hE.2.1.2.2.1 _ _ _ _ _ _ q193)) (fun _ h9 => h9) ea4 (rdI_o e5) dJ26_next_14 ?_
  refine lv_icmp_lt (pc := 17) (tgt := 28) hx hb dJ26_next_17 (by decide) (fun c6 => ?_) (fun c6 => ?_)
  · rw [if_pos c6] at hf
    refine lv_aload_n (pc := 28) hx hb dJ26_next_28 rfl (lv_at hl 1 rfl) ?_
    obtain ⟨v7, e7, hf⟩ := bdo hf
    refine g_get (pc := 29) (o := (some l0)) (a := l0) (ci := 21) (k := 3) (v := va_rf v7) (C := RJ26) (T := TJ26) (N := 4) hx hb hts hown hE hk hH in_J26 rfl (by decide) (hts _ q1307) (fun _ h9 => h9) rfl (rdR_o e7) dJ26_next_29 ?_
    obtain ⟨a8, ea8, hf⟩ := bdo hf
    obtain ⟨v9, e9, hf⟩ := bdo hf
    refine g_get (pc := 32) (o := v7) (a := a8) (ci := 15) (k := 1) (v := va_rf v9) (C := RJ2) (T := TJ2) (N := 3) hx hb hts hown hE hk hH in_J2 rfl (by decide) (hts _ q192) (fun _ h9 => h9) ea8 (rdR_o e9) dJ26_next_32 ?_
    refine g_astore_n (pc := 35) (i := 2) (o := v9) (lv' := [(2, va_rf v9), (1, .int v2), (0, .ref l0)]) hx hb dJ26_next_35 rfl hl (by decide) rfl (fun ls hl => ?_)
    refine lv_iload_n (pc := 36) hx hb dJ26_next_36 rfl (lv_at hl 1 rfl) ?_
    refine g_aload_n (pc := 37) (o := v9) hx hb dJ26_next_37 rfl (lv_at hl 0 rfl) ?_
    obtain ⟨a10, ea10, hf⟩ := bdo hf
    obtain ⟨v11, e11, hf⟩ := bdo hf
    refine g_lenQ (pc := 38) (o := v9) (a := a10) hx hb hE hk hH hS ea10 e11 dJ26_next_38 ?_
    refine lv_icmp_lt (pc := 39) (tgt := 50) hx hb dJ26_next_39 (by decide) (fun c12 => ?_) (fun c12 => ?_)
    · rw [if_pos c12] at hf
      refine lv_aload_n (pc := 50) hx hb dJ26_next_50 rfl (lv_at hl 2 rfl) ?_
      refine lv_iload_n (pc := 51) hx hb dJ26_next_51 rfl (lv_at hl 1 rfl) ?_
      refine lv_iconst (pc := 52) (v := nI 1) hx hb dJ26_next_52 rfl ?_
      refine lv_iadd (pc := 53) hx hb dJ26_next_53 ?_
      obtain ⟨S13, e13, hf⟩ := bdo hf
      refine g_put (pc := 54) (o := (some l0)) (a := l0) (ci := 21) (k := 0) (v := .int (v2 + (nI 1))) (C := RJ26) (T := TJ26) (N := 4) (ty := .int) hx hb hts hown hE hk hH hS rfl in_J26 tyJ26_ok nmJ26 rfl (by decide) (hts _ q1304) (fun _ h9 => h9) rfl rfl rfl rfl rfl e13 dJ26_next_54 (fun H locs hH hS => ?_)
      refine g_aload_n (pc := 57) (o := v9) hx hb dJ26_next_57 rfl (lv_at hl 0 rfl) ?_
      refine lv_aload_n (pc := 58) hx hb dJ26_next_58 rfl (lv_at hl 2 rfl) ?_
      refine lv_iload_n (pc := 59) hx hb dJ26_next_59 rfl (lv_at hl 1 rfl) ?_
      refine lv_dup_x1 (pc := 60) hx hb dJ26_next_60 rfl rfl ?_
      obtain ⟨S14, e14, hf⟩ := bdo hf
      refine g_put (pc := 61) (o := (some l0)) (a := l0) (ci := 21) (k := 1) (v := .int v2) (C := RJ26) (T := TJ26) (N := 4) (ty := .int) hx hb hts hown hE hk hH hS rfl in_J26 tyJ26_ok nmJ26 rfl (by decide) (hts _ q1305) (fun _ h9 => h9) rfl rfl rfl rfl rfl e14 dJ26_next_61 (fun H locs hH hS => ?_)
      obtain ⟨v15, e15, hf⟩ := bdo hf
      refine g_aald (pc := 64) (o := v9) (a := a10) (t := 5) (t0 := 5) hx hb hE hk hH rfl ea10 e15 dJ26_next_64 ?_
      exact g_aret (pc := 65) (v := v15) hx hb hr (Or.inl ⟨_, rfl⟩) hlk hH hS hkc hks hf dJ26_next_65
    · rw [if_neg c12] at hf
      exact absurd hf (fun h => by cases h)
  · rw [if_neg c6] at hf
    exact absurd hf (fun h => by cases h)
theorem mJ26_next {l : Launch} {G : gG} {Rp : gM → gM → Nat → Prop} (hk : rOK Rp) {S S2 : gS} {r2 : Option Nat} {C N : Nat} {l0 : Nat} (hf : fJ26_next G l0 S = some (r2, S2, C, N)) : gMet l yJ26_next cJ26_next 3 (some (.object "java/lang/Object")) 2 80 G Rp [.ref l0] S (some (va_rf r2)) S2 C N := by
  refine g_start (by decide) (Nat.le_of_ble_eq_true rfl) (fun p e s m args below meth c ls hc hl hH => ?_)
  have hl : lv_has ls 3 [(0, .ref l0)] := hl
  exact wJ26_next_b0 hk hc l0 S _ _ ls 0 0 C N (by omega) (by omega) hH va_S.rf (lv_sub hl [0] rfl) hf
end
section
variable {P : Unit ⊕ gTh → gS → Prop}
def fJ26_remove (G : gG) (l0 : Nat) (S : gS) : gX Unit :=
  bd (rdI S l0 21 1) fun v1 =>
  if 0 ≤ v1 then
    bd (chk S l0 21) fun _ =>
    gb (fJ26_checkForComodification G l0 S) fun _ S3 =>
    bd (rdR S3 l0 21 3) fun v4 =>
    bd (rdI S3 l0 21 1) fun v5 =>
    bd v4 fun a7 =>
    bd (chk S3 a7 15) fun _ =>
    gb (fJ2_remove_2 G a7 v5 S3) fun v6 S6 =>
    bd (rdI S6 l0 21 1) fun v8 =>
    bd (wr S6 l0 21 0 (.int v8)) fun S9 =>
    bd (wr S9 l0 21 1 (.int (-1))) fun S10 =>
    bd (rdR S10 l0 21 3) fun v11 =>
    bd v11 fun a12 =>
    bd (rdI S10 a12 15 0) fun v13 =>
    bd (wr S10 l0 21 2 (.int v13)) fun S14 =>
    some (.inl (), S14, 0, 0)
  else
    none
theorem wJ26_remove_b0 (hk : rOK Rp) (htb : c.exceptionTable.toList = tableOf [(19, 55, 58, 51)]) (hc : gC p s m args meth c G RJ26 "remove" cJ26_remove 2 (none)) (l0 : Nat) (S : gS) (H : Heap) (locs : List Loc) (ls : Array Slot) (kc ks C N : Nat) (hkc : kc + C ≤ mc) (hks : ks + N ≤ ms) (hH : hp G Rp S H) (hS : va_S G.2.2.2 s.heap H locs) (hl : lv_has ls 2 [(0, .ref l0)]) (hf : (∀ j : Nat, oky C N (fJ26_remove G l0 S) P)) : W p l e (gR 4 126 mc ms) s m args below meth c H locs kc ks (gQJ below G Rp iV P args s mc ms) (F0 m 0 ls []) := by
  obtain ⟨hx, hb, hr, hlk, hml, hown, hts, hE, hA, hnm⟩ := hc
  have hc : gC p s m args meth c G RJ26 "remove" cJ26_remove 2 (none) := ⟨hx, hb, hr, hlk, hml, hown, hts, hE, hA, hnm⟩
  simp only [fJ26_remove] at hf
  refine lv_aload_n (pc := 0) hx hb dJ26_remove_0 rfl (lv_at hl 0 rfl) ?_
  obtain ⟨v1, e1, hf⟩ := bdJ hf
  refine g_get (pc := 1) (o := (some l0)) (a := l0) (ci := 21) (k := 1) (v := .int v1) (C := RJ26) (T := TJ26) (N := 4) hx hb hts hown hE hk hH in_J26 rfl (by decide) (hts _ q1305) (fun _ h9 => h9) rfl (rdI_o e1) dJ26_remove_1 ?_
  refine lv_if_ge (pc := 4) (tgt := 15) hx hb dJ26_remove_4 (by decide) (fun c2 => ?_) (fun c2 => ?_)
  · simp only [if_pos c2] at hf
    refine lv_aload_n (pc := 15) hx hb dJ26_remove_15 rfl (lv_at hl 0 rfl) ?_
    obtain ⟨_, ek3, hf⟩ := bdJ hf
    obtain ⟨_, S3, c3, n3, c2_3, n2_3, e3, hf, hC3, hN3⟩ := gbJ hf
    refine g_callV (pc := 16) (o := (some l0)) (b := l0) (As := []) (rest := []) (st1 := []) hc (mJ26_checkForComodification hk (l0 := l0) e3) (cwV 0 hts (lw_V q1477 q1478 q1479 q135 q1482) rfl rfl rfl jhdJ26_checkForComodification ⟨Nat.le_of_ble_eq_true rfl, Nat.le_of_ble_eq_true rfl⟩) (g_recv hE hk hH (ci := 21) (q := (RJ26, TJ26, 4)) rfl (chk_o ek3).choose_spec) rfl rfl hl.1 rfl rfl (lv_room (Nat.le_of_ble_eq_true rfl)) dJ26_remove_16 hH hS (by omega) (by omega) (fun H locs hH hS => ?_)
    have hkc : kc + c3 + c2_3 ≤ mc := by omega
    have hks : ks + n3 + n2_3 ≤ ms := by omega
    refine lv_aload_n (pc := 19) hx hb dJ26_remove_19 rfl (lv_at hl 0 rfl) ?_
    obtain ⟨v4, e4, hf⟩ := bdJ hf
    refine g_get (pc := 20) (o := (some l0)) (a := l0) (ci := 21) (k := 3) (v := va_rf v4) (C := RJ26) (T := TJ26) (N := 4) hx hb hts hown hE hk hH in_J26 rfl (by decide) (hts _ q1307) (fun _ h9 => h9) rfl (rdR_o e4) dJ26_remove_20 ?_
    refine lv_aload_n (pc := 23) hx hb dJ26_remove_23 rfl (lv_at hl 0 rfl) ?_
    obtain ⟨v5, e5, hf⟩ := bdJ hf
    refine g_get (pc := 24) (o := (some l0)) (a := l0) (ci := 21) (k := 1) (v := .int v5) (C := RJ26) (T := TJ26) (N := 4) hx hb hts hown hE hk hH in_J26 rfl (by decide) (hts _ q1305) (fun _ h9 => h9) rfl (rdI_o e5) dJ26_remove_24 ?_
    obtain ⟨a7, ea7, hf⟩ := bdJ hf
    obtain ⟨_, ek6, hf⟩ := bdJ hf
    obtain ⟨v6, S6, c6, n6, c2_6, n2_6, e6, hf, hC6, hN6⟩ := gbJ hf
    refine g_callV (pc := 27) (o := v4) (b := a7) (As := [.int v5]) (rest := []) (st1 := [va_rf v6]) hc (mJ2_remove_2 hk (l0 := a7) (l1 := v5) e6) (cwV 1 hts (lw_V q2134 q1940 q1941 q101 q1942) rfl rfl rfl jhdJ2_remove_2 ⟨Nat.le_of_ble_eq_true rfl, Nat.le_of_ble_eq_true rfl⟩) (g_recv hE hk hH (ci := 15) (q := (RJ2, TJ2, 3)) rfl (chk_o ek6).choose_spec) ea7 rfl hl.1 rfl rfl (lv_room (Nat.le_of_ble_eq_true rfl)) dJ26_remove_27 hH hS (by omega) (by omega) (fun H locs hH hS => ?_)
    have hkc : kc + c3 + c6 + c2_6 ≤ mc := by omega
    have hks : ks + n3 + n6 + n2_6 ≤ ms := by omega
    refine lv_pop (pc := 30) hx hb dJ26_remove_30 (va_rf_cat _) ?_
    refine lv_aload_n (pc := 31) hx hb dJ26_remove_31 rfl (lv_at hl 0 rfl) ?_
    refine lv_aload_n (pc := 32) hx hb dJ26_remove_32 rfl (lv_at hl 0 rfl) ?_
    obtain ⟨v8, e8, hf⟩ := bdJ hf
    refine g_get (pc := 33) (o := (some l0)) (a := l0) (ci := 21) (k := 1) (v := .int v8) (C := RJ26) (T := TJ26) (N := 4) hx hb hts hown hE hk hH in_J26 rfl (by decide) (hts _ q1305) (fun _ h9 => h9) rfl (rdI_o e8) dJ26_remove_33 ?_
    obtain ⟨S9, e9, hf⟩ := bdJ hf
    refine g_put (pc := 36) (o := (some l0)) (a := l0) (ci := 21) (k := 0) (v := .int v8) (C := RJ26) (T := TJ26) (N := 4) (ty := .int) hx hb hts hown hE hk hH hS rfl in_J26 tyJ26_ok nmJ26 rfl (by decide) (hts _ q1304) (fun _ h9 => h9) rfl rfl rfl rfl rfl e9 dJ26_remove_36 (fun H locs hH hS => ?_)
    refine lv_aload_n (pc := 39) hx hb dJ26_remove_39 rfl (lv_at hl 0 rfl) ?_
    refine lv_iconst (pc := 40) (v := -1) hx hb dJ26_remove_40 rfl ?_
    obtain ⟨S10, e10, hf⟩ := bdJ hf
    refine g_put (pc := 41) (o := (some l0)) (a := l0) (ci := 21) (k := 1) (v := .int (-1)) (C := RJ26) (T := TJ26) (N := 4) (ty := .int) hx hb hts hown hE hk hH hS rfl in_J26 tyJ26_ok nmJ26 rfl (by decide) (hts _ q1305) (fun _ h9 => h9) rfl rfl rfl rfl rfl e10 dJ26_remove_41 (fun H locs hH hS => ?_)
    refine lv_aload_n (pc := 44) hx hb dJ26_remove_44 rfl (lv_at hl 0 rfl) ?_
    refine lv_aload_n (pc := 45) hx hb dJ26_remove_45 rfl (lv_at hl 0 rfl) ?_
    obtain ⟨v11, e11, hf⟩ := bdJ hf
    refine g_get (pc := 46) (o := (some l0)) (a := l0) (ci := 21) (k := 3) (v := va_rf v11) (C := RJ26) (T := TJ26) (N := 4) hx hb hts hown hE hk hH in_J26 rfl (by decide) (hts _ q1307) (fun _ h9 => h9) rfl (rdR_o e11) dJ26_remove_46 ?_
    obtain ⟨a12, ea12, hf⟩ := bdJ hf
    obtain ⟨v13, e13, hf⟩ := bdJ hf
    refine g_get (pc := 49) (o := v11) (a := a12) (ci := 15) (k := 0) (v := .int v13) (C := RJ2) (T := TJ2) (N := 3) hx hb hts hown hE hk hH in_J2 rfl (by decide) (hts _ q198) (fun x h9 => u_same (hts _ q199) x h9) ea12 (rdI_o e13) dJ26_remove_49 ?_
    obtain ⟨S14, e14, hf⟩ := bdJ hf
    refine g_put (pc := 52) (o := (some l0)) (a := l0) (ci := 21) (k := 2) (v := .int v13) (C := RJ26) (T := TJ26) (N := 4) (ty := .int) hx hb hts hown hE hk hH hS rfl in_J26 tyJ26_ok nmJ26 rfl (by decide) (hts _ q1306) (fun _ h9 => h9) rfl rfl rfl rfl rfl e14 dJ26_remove_52 (fun H locs hH hS => ?_)
    refine lv_goto (pc := 55) (tgt := 67) hx hb dJ26_remove_55 (by decide) ?_
    exact g_vretJ (pc := 67) hx hb hr hlk hH hS hkc hks hf dJ26_remove_67
  · simp only [if_neg c2] at hf
    exact noJ hf
theorem mJ26_remove {l : Launch} {G : gG} {Rp : gM → gM → Nat → Prop} (hk : rOK Rp) {S : gS} {C N : Nat} {l0 : Nat} {S2 : gS} {r2 : Unit} (hf : fJ26_remove G l0 S = some (.inl r2, S2, C, N)) : gMetW l yJ26_remove cJ26_remove 2 (none) [(19, 55, 58, 51)] 4 126 G Rp [.ref l0] S none S2 C N := by
  refine gMetJ_W (ι := iV) (r2 := r2) ?_
  refine g_startJW (by decide) (Nat.le_of_ble_eq_true rfl) (fun p e s m args below meth c ls hc htb hl hH => ?_)
  have hl : lv_has ls 2 [(0, .ref l0)] := hl
  exact wJ26_remove_b0 hk htb hc l0 S _ _ ls 0 0 C N (by omega) (by omega) hH va_S.rf (lv_sub hl [0] rfl) (fun _ => ⟨_, _, _, _, hf, Nat.le_refl _, Nat.le_refl _, rfl, rfl⟩)
end
section
variable {r : Int32} {Sf : gS}
def fJ32_hasNext (G : gG) (l0 : Nat) (S : gS) : gO Int32 :=
  bd (rdI S l0 22 2) fun v1 =>
  bd (rdR S l0 22 4) fun v2 =>
  bd v2 fun a3 =>
  bd (rdI S a3 16 1) fun v4 =>
  if v4 ≤ v1 then
    zg (nI 0) S
  else
    zg (nI 1) S
theorem wJ32_hasNext_b0 (hk : rOK Rp) (hc : gC p s m args meth c G RJ32 "hasNext" cJ32_hasNext 1 (some .boolean)) (l0 : Nat) (S : gS) (H : Heap) (locs : List Loc) (ls : Array Slot) (kc ks C N : Nat) (hkc : kc + C ≤ mc) (hks : ks + N ≤ ms) (hH : hp G Rp S H) (hS : va_S G.2.2.2 s.heap H locs) (hl : lv_has ls 1 [(0, .ref l0)]) (hf : fJ32_hasNext G l0 S = some (r, Sf, C, N)) : W p l e (gR 1 60 mc ms) s m args below meth c H locs kc ks (gQ below G Rp (some (.int r)) Sf args s mc ms) (F0 m 0 ls []) := by
  obtain ⟨hx, hb, hr, hlk, hml, hown, hts, hE, hA, hnm⟩ := hc
  have hc : gC p s m args meth c G RJ32 "hasNext" cJ32_hasNext 1 (some .boolean) := ⟨hx, hb, hr, hlk, hml, hown, hts, hE, hA, hnm⟩
  unfold fJ32_hasNext at hf
  refine lv_aload_n (pc := 0) hx hb dJ32_hasNext_0 rfl (lv_at hl 0 rfl) ?_
  obtain ⟨v1, e1, hf⟩ := bdo hf
  refine g_get (pc := 1) (o := (some l0)) (a := l0) (ci := 22) (k := 2) (v := .int v1) (C := RJ32) (T := TJ32) (N := 5) hx hb hts hown hE hk hH in_J32 rfl (by decide) (hts _ q2044) (fun _ h9 => h9) rfl (rdI_o e1) dJ32_hasNext_1 ?_
  refine lv_aload_n (pc := 4) hx hb dJ32_hasNext_4 rfl (lv_at hl 0 rfl) ?_
  obtain ⟨v2, e2, hf⟩ := bdo hf
  refine g_get (pc := 5) (o := (some l0)) (a := l0) (ci := 22) (k := 4) (v := va_rf v2) (C := RJ32) (T := TJ32) (N := 5) hx hb hts hown hE hk hH in_J32 rfl (by decide) (hts _ q2046) (fun _ h9 => h9) rfl (rdR_o e2) dJ32_hasNext_5 ?_
  obtain ⟨a3, ea3, hf⟩ := bdo hf
  obtain ⟨v4, e4, hf⟩ := bdo hf
  refine g_get (pc := 8) (o := v2) (a := a3) (ci := 16) (k := 1) (v := .int v4) (C := RJ4) (T := TJ4) (N := 4) hx hb hts hown hE hk hH in_J4 rfl (by decide) (hts _ q220) (fun _ h9 => h9) ea3 (rdI_o e4) dJ32_hasNext_8 ?_
  refine lv_icmp_ge (pc := 11) (tgt := 18) hx hb dJ32_hasNext_11 (by decide) (fun c5 => ?_) (fun c5 => ?_)
  · rw [if_pos c5] at hf
    refine lv_iconst (pc := 18) (v := nI 0) hx hb dJ32_hasNext_18 rfl ?_
    exact g_zret (pc := 19) hx hb hr hlk hH hS hkc hks hf dJ32_hasNext_19
  · rw [if_neg c5] at hf
    refine lv_iconst (pc := 14) (v := nI 1) hx hb dJ32_hasNext_14 rfl ?_
    refine lv_goto (pc := 15) (tgt := 19) hx hb dJ32_hasNext_15 (by decide) ?_
    exact g_zret (pc := 19) hx hb hr hlk hH hS hkc hks hf dJ32_hasNext_19
theorem mJ32_hasNext {l : Launch} {G : gG} {Rp : gM → gM → Nat → Prop} (hk : rOK Rp) {S S2 : gS} {r2 : Int32} {C N : Nat} {l0 : Nat} (hf : fJ32_hasNext G l0 S = some (r2, S2, C, N)) : gMet l yJ32_hasNext cJ32_hasNext 1 (some .boolean) 1 60 G Rp [.ref l0] S (some (.int r2)) S2 C N := by
  refine g_start (by decide) (Nat.le_of_ble_eq_true rfl) (fun p e s m args below meth c ls hc hl hH => ?_)
  have hl : lv_has ls 1 [(0, .ref l0)] := hl
  exact wJ32_hasNext_b0 hk hc l0 S _ _ ls 0 0 C N (by omega) (by omega) hH va_S.rf (lv_sub hl [0] rfl) hf
end
section
variable {r : Unit} {Sf : gS}
def fJ32_checkForComodification (G : gG) (l0 : Nat) (S : gS) : gO Unit :=
  bd (rdR S l0 22 4) fun v1 =>
  bd v1 fun a2 =>
  bd (rdI S a2 16 0) fun v3 =>
  bd (rdI S l0 22 3) fun v4 =>
  if v3 = v4 then
    some ((), S, 0, 0)
  else
    none
theorem wJ32_checkForComodification_b0 (hk : rOK Rp) (hc : gC p s m args meth c G RJ32 "checkForComodification" cJ32_checkForComodification 1 (none)) (l0 : Nat) (S : gS) (H : Heap) (locs : List Loc) (ls : Array Slot) (kc ks C N : Nat) (hkc : kc + C ≤ mc) (hks : ks + N ≤ ms) (hH : hp G Rp S H) (hS : va_S G.2.2.2 s.heap H locs) (hl : lv_has ls 1 [(0, .ref l0)]) (hf : fJ32_checkForComodification G l0 S = some (r, Sf, C, N)) : W p l e (gR 1 60 mc ms) s m args below meth c H locs kc ks (gQ below G Rp none Sf args s mc ms) (F0 m 0 ls []) := by
  obtain ⟨hx, hb, hr, hlk, hml, hown, hts, hE, hA, hnm⟩ := hc
  have hc : gC p s m args meth c G RJ32 "checkForComodification" cJ32_checkForComodification 1 (none) := ⟨hx, hb, hr, hlk, hml, hown, hts, hE, hA, hnm⟩
  unfold fJ32_checkForComodification at hf
  refine lv_aload_n (pc := 0) hx hb dJ32_checkForComodification_0 rfl (lv_at hl 0 rfl) ?_
  obtain ⟨v1, e1, hf⟩ := bdo hf
  refine g_get (pc := 1) (o := (some l0)) (a := l0) (ci := 22) (k := 4) (v := va_rf v1) (C := RJ32) (T := TJ32) (N := 5) hx hb hts hown hE hk hH in_J32 rfl (by decide) (hts _ q2046) (fun _ h9 => h9) rfl (rdR_o e1) dJ32_checkForComodification_1 ?_
  obtain ⟨a2, ea2, hf⟩ := bdo hf
  obtain ⟨v3, e3, hf⟩ := bdo hf
  refine g_get (pc := 4) (o := v1) (a := a2) (ci := 16) (k := 0) (v := .int v3) (C := RJ4) (T := TJ4) (N := 4) hx hb hts hown hE hk hH in_J4 rfl (by decide) (hts _ q196) (fun x h9 => u_same (hts _ q197) x h9) ea2 (rdI_o e3) dJ32_checkForComodification_4 ?_
  refine lv_aload_n (pc := 7) hx hb dJ32_checkForComodification_7 rfl (lv_at hl 0 rfl) ?_
  obtain ⟨v4, e4, hf⟩ := bdo hf
  refine g_get (pc := 8) (o := (some l0)) (a := l0) (ci := 22) (k := 3) (v := .int v4) (C := RJ32) (T := TJ32) (N := 5) hx hb hts hown hE hk hH in_J32 rfl (by decide) (hts _ q2045) (fun _ h9 => h9) rfl (rdI_o e4) dJ32_checkForComodification_8 ?_
  refine lv_icmp_eq (pc := 11) (tgt := 22) hx hb dJ32_checkForComodification_11 (by decide) (fun c5 => ?_) (fun c5 => ?_)
  · rw [if_pos c5] at hf
    exact g_vret (pc := 22) hx hb hr hlk hH hS hkc hks hf dJ32_checkForComodification_22
  · rw [if_neg c5] at hf
    exact absurd hf (fun h => by cases h)
theorem mJ32_checkForComodification {l : Launch} {G : gG} {Rp : gM → gM → Nat → Prop} (hk : rOK Rp) {S S2 : gS} {r2 : Unit} {C N : Nat} {l0 : Nat} (hf : fJ32_checkForComodification G l0 S = some (r2, S2, C, N)) : gMet l yJ32_checkForComodification cJ32_checkForComodification 1 (none) 1 60 G Rp [.ref l0] S none S2 C N := by
  refine g_start (by decide) (Nat.le_of_ble_eq_true rfl) (fun p e s m args below meth c ls hc hl hH => ?_)
  have hl : lv_has ls 1 [(0, .ref l0)] := hl
  exact wJ32_checkForComodification_b0 hk hc l0 S _ _ ls 0 0 C N (by omega) (by omega) hH va_S.rf (lv_sub hl [0] rfl) hf
end
section
variable {r : Option Nat} {Sf : gS}
def fJ32_next (G : gG) (l0 : Nat) (S : gS) : gO (Option Nat) :=
  bd (chk S l0 22) fun _ =>
  gb (fJ32_checkForComodification G l0 S) fun _ S1 =>
  bd (chk S1 l0 22) fun _ =>
  gb (fJ32_hasNext G l0 S1) fun v2 S2 =>
  if v2 = 0 then
    none
  else
    bd (rdR S2 l0 22 1) fun v4 =>
    bd (wr S2 l0 22 0 (va_rf v4)) fun S5 =>
    bd (rdR S5 l0 22 1) fun v6 =>
    bd v6 fun a7 =>
    bd (rdR S5 a7 20 1) fun v8 =>
    bd (wr S5 l0 22 1 (va_rf v8)) fun S9 =>
    bd (rdI S9 l0 22 2) fun v10 =>
    bd (wr S9 l0 22 2 (.int (v10 + (nI 1)))) fun S11 =>
    bd (rdR S11 l0 22 0) fun v12 =>
    bd v12 fun a13 =>
    bd (rdR S11 a13 20 0) fun v14 =>
    some (v14, S11, 0, 0)
theorem wJ32_next_b0 (hk : rOK Rp) (hc : gC p s m args meth c G RJ32 "next" cJ32_next 1 (some (.object "java/lang/Object"))) (l0 : Nat) (S : gS) (H : Heap) (locs : List Loc) (ls : Array Slot) (kc ks C N : Nat) (hkc : kc + C ≤ mc) (hks : ks + N ≤ ms) (hH : hp G Rp S H) (hS : va_S G.2.2.2 s.heap H locs) (hl : lv_has ls 1 [(0, .ref l0)]) (hf : fJ32_next G l0 S = some (r, Sf, C, N)) : W p l e (gR 2 80 mc ms) s m args below meth c H locs kc ks (gQ below G Rp (some (va_rf r)) Sf args s mc ms) (F0 m 0 ls []) := by
  obtain ⟨hx, hb, hr, hlk, hml, hown, hts, hE, hA, hnm⟩ := hc
  have hc : gC p s m args meth c G RJ32 "next" cJ32_next 1 (some (.object "java/lang/Object")) := ⟨hx, hb, hr, hlk, hml, hown, hts, hE, hA, hnm⟩
  unfold fJ32_next at hf
  refine lv_aload_n (pc := 0) hx hb dJ32_next_0 rfl (lv_at hl 0 rfl) ?_
  obtain ⟨_, ek1, hf⟩ := bdo hf
  obtain ⟨_, S1, c1, n1, c2_1, n2_1, e1, hf, hC1, hN1⟩ := gbo hf
  refine g_callV (pc := 1) (o := (some l0)) (b := l0) (As := []) (rest := []) (st1 := []) hc (mJ32_checkForComodification hk (l0 := l0) e1) (cwV 0 hts (lw_V q1490 q1491 q1492 q152 q1493) rfl rfl rfl jhdJ32_checkForComodification ⟨Nat.le_of_ble_eq_true rfl, Nat.le_of_ble_eq_true rfl⟩) (g_recv hE hk hH (ci := 22) (q := (RJ32, TJ32, 5)) rfl (chk_o ek1).choose_spec) rfl rfl hl.1 rfl rfl (lv_room (Nat.le_of_ble_eq_true rfl)) dJ32_next_1 hH hS (by omega) (by omega) (fun H locs hH hS => ?_)
  have hkc : kc + c1 + c2_1 ≤ mc := by omega
  have hks : ks + n1 + n2_1 ≤ ms := by omega
  refine lv_aload_n (pc := 4) hx hb dJ32_next_4 rfl (lv_at hl 0 rfl) ?_
  obtain ⟨_, ek2, hf⟩ := bdo hf
  obtain ⟨v2, S2, c2, n2, c2_2, n2_2, e2, hf, hC2, hN2⟩ := gbo hf
  refine g_callV (pc := 5) (o := (some l0)) (b := l0) (As := []) (rest := []) (st1 := [.int v2]) hc (mJ32_hasNext hk (l0 := l0) e2) (cwV 0 hts (lw_V q1494 q1350 q3299 q152 q1352) rfl rfl rfl jhdJ32_hasNext ⟨Nat.le_of_ble_eq_true rfl, Nat.le_of_ble_eq_true rfl⟩) (g_recv hE hk hH (ci := 22) (q := (RJ32, TJ32, 5)) rfl (chk_o ek2).choose_spec) rfl rfl hl.1 rfl rfl (lv_room (Nat.le_of_ble_eq_true rfl)) dJ32_next_5 hH hS (by omega) (by omega) (fun H locs hH hS => ?_)
  have hkc : kc + c1 + c2 + c2_2 ≤ mc := by omega
  have hks : ks + n1 + n2 + n2_2 ≤ ms := by omega
  refine lv_if_ne (pc := 8) (tgt := 19) hx hb dJ32_next_8 (by decide) (fun c3 => ?_) (fun c3 => ?_)
  · rw [if_neg c3] at hf
    refine lv_aload_n (pc := 19) hx hb dJ32_next_19 rfl (lv_at hl 0 rfl) ?_
    refine lv_aload_n (pc := 20) hx hb dJ32_next_20 rfl (lv_at hl 0 rfl) ?_
    obtain ⟨v4, e4, hf⟩ := bdo hf
    refine g_get (pc := 21) (o := (some l0)) (a := l0) (ci := 22) (k := 1) (v := va_rf v4) (C := RJ32) (T := TJ32) (N := 5) hx hb hts hown hE hk hH in_J32 rfl (by decide) (hts _ q2043) (fun _ h9 => h9) rfl (rdR_o e4) dJ32_next_21 ?_
    obtain ⟨S5, e5, hf⟩ := bdo hf
    refine g_put (pc := 24) (o := (some l0)) (a := l0) (ci := 22) (k := 0) (v := va_rf v4) (C := RJ32) (T := TJ32) (N := 5) (ty := .object "java/util/LinkedList$Node") hx hb hts hown hE hk hH hS rfl in_J32 tyJ32_ok nmJ32 rfl (by decide) (hts _ q2042) (fun _ h9 => h9) rfl rfl (nar_rf _ _) (fit_rf _ _) rfl e5 dJ32_next_24 (fun H locs hH hS => ?_)
    refine lv_aload_n (pc := 27) hx hb dJ32_next_27 rfl (lv_at hl 0 rfl) ?_
    refine lv_aload_n (pc := 28) hx hb dJ32_next_28 rfl (lv_at hl 0 rfl) ?_
    obtain ⟨v6, e6, hf⟩ := bdo hf
    refine g_get (pc := 29) (o := (some l0)) (a := l0) (ci := 22) (k := 1) (v := va_rf v6) (C := RJ32) (T := TJ32) (N := 5) hx hb hts hown hE hk hH in_J32 rfl (by decide) (hts _ q2043) (fun _ h9 => h9) rfl (rdR_o e6) dJ32_next_29 ?_
    obtain ⟨a7, ea7, hf⟩ := bdo hf
    obtain ⟨v8, e8, hf⟩ := bdo hf
    refine g_get (pc := 32) (o := v6) (a := a7) (ci := 20) (k := 1) (v := va_rf v8) (C := RJ29) (T := TJ29) (N := 3) hx hb hts hown hE hk hH in_J29 rfl (by decide) (hts _ q1682) (fun _ h9 => h9) ea7 (rdR_o e8) dJ32_next_32 ?_
    obtain ⟨S9, e9, hf⟩ := bdo hf
    refine g_put (pc := 35) (o := (some l0)) (a := l0) (ci := 22) (k := 1) (v := va_rf v8) (C := RJ32) (T := TJ32) (N := 5) (ty := .object "java/util/LinkedList$Node") hx hb hts hown hE hk hH hS rfl in_J32 tyJ32_ok nmJ32 rfl (by decide) (hts _ q2043) (fun _ h9 => h9) rfl rfl (nar_rf _ _) (fit_rf _ _) rfl e9 dJ32_next_35 (fun H locs hH hS => ?_)
    refine lv_aload_n (pc := 38) hx hb dJ32_next_38 rfl (lv_at hl 0 rfl) ?_
    refine lv_dup (pc := 39) hx hb dJ32_next_39 rfl ?_
    obtain ⟨v10, e10, hf⟩ := bdo hf
    refine g_get (pc := 40) (o := (some l0)) (a := l0) (ci := 22) (k := 2) (v := .int v10) (C := RJ32) (T := TJ32) (N := 5) hx hb hts hown hE hk hH in_J32 rfl (by decide) (hts _ q2044) (fun _ h9 => h9) rfl (rdI_o e10) dJ32_next_40 ?_
    refine lv_iconst (pc := 43) (v := nI 1) hx hb dJ32_next_43 rfl ?_
    refine lv_iadd (pc := 44) hx hb dJ32_next_44 ?_
    obtain ⟨S11, e11, hf⟩ := bdo hf
    refine g_put (pc := 45) (o := (some l0)) (a := l0) (ci := 22) (k := 2) (v := .int (v10 + (nI 1))) (C := RJ32) (T := TJ32) (N := 5) (ty := .int) hx hb hts hown hE hk hH hS rfl in_J32 tyJ32_ok nmJ32 rfl (by decide) (hts _ q2044) (fun _ h9 => h9) rfl rfl rfl rfl rfl e11 dJ32_next_45 (fun H locs hH hS => ?_)
    refine lv_aload_n (pc := 48) hx hb dJ32_next_48 rfl (lv_at hl 0 rfl) ?_
    obtain ⟨v12, e12, hf⟩ := bdo hf
    refine g_get (pc := 49) (o := (some l0)) (a := l0) (ci := 22) (k := 0) (v := va_rf v12) (C := RJ32) (T := TJ32) (N := 5) hx hb hts hown hE hk hH in_J32 rfl (by decide) (hts _ q2042) (fun _ h9 => h9) rfl (rdR_o e12) dJ32_next_49 ?_
    obtain ⟨a13, ea13, hf⟩ := bdo hf
    obtain ⟨v14, e14, hf⟩ := bdo hf
    refine g_get (pc := 52) (o := v12) (a := a13) (ci := 20) (k := 0) (v := va_rf v14) (C := RJ29) (T := TJ29) (N := 3) hx hb hts hown hE hk hH in_J29 rfl (by decide) (hts _ q1679) (fun _ h9 => h9) ea13 (rdR_o e14) dJ32_next_52 ?_
    exact g_aret (pc := 55) (v := v14) hx hb hr (Or.inl ⟨_, rfl⟩) hlk hH hS hkc hks hf dJ32_next_55
  · rw [if_pos c3] at hf
    exact absurd hf (fun h => by cases h)
theorem mJ32_next {l : Launch} {G : gG} {Rp : gM → gM → Nat → Prop} (hk : rOK Rp) {S S2 : gS} {r2 : Option Nat} {C N : Nat} {l0 : Nat} (hf : fJ32_next G l0 S = some (r2, S2, C, N)) : gMet l yJ32_next cJ32_next 1 (some (.object "java/lang/Object")) 2 80 G Rp [.ref l0] S (some (va_rf r2)) S2 C N := by
  refine g_start (by decide) (Nat.le_of_ble_eq_true rfl) (fun p e s m args below meth c ls hc hl hH => ?_)
  have hl : lv_has ls 1 [(0, .ref l0)] := hl
  exact wJ32_next_b0 hk hc l0 S _ _ ls 0 0 C N (by omega) (by omega) hH va_S.rf (lv_sub hl [0] rfl) hf
end
section
variable {r : Unit} {Sf : gS}
def fJ32_remove_b68 (G : gG) (l0 : Nat) (S : gS) : gO Unit :=
  bd (wr S l0 22 0 (.null)) fun S1 =>
  bd (rdI S1 l0 22 3) fun v2 =>
  bd (wr S1 l0 22 3 (.int (v2 + (nI 1)))) fun S3 =>
  some ((), S3, 0, 0)
theorem wJ32_remove_b68 (hk : rOK Rp) (hc : gC p s m args meth c G RJ32 "remove" cJ32_remove 2 (none)) (l0 : Nat) (S : gS) (H : Heap) (locs : List Loc) (ls : Array Slot) (kc ks C N : Nat) (hkc : kc + C ≤ mc) (hks : ks + N ≤ ms) (hH : hp G Rp S H) (hS : va_S G.2.2.2 s.heap H locs) (hl : lv_has ls 2 [(0, .ref l0)]) (hf : fJ32_remove_b68 G l0 S = some (r, Sf, C, N)) : W p l e (gR 2 84 mc ms) s m args below meth c H locs kc ks (gQ below G Rp none Sf args s mc ms) (F0 m 68 ls []) := by
  obtain ⟨hx, hb, hr, hlk, hml, hown, hts, hE, hA, hnm⟩ := hc
  have hc : gC p s m args meth c G RJ32 "remove" cJ32_remove 2 (none) := ⟨hx, hb, hr, hlk, hml, hown, hts, hE, hA, hnm⟩
  unfold fJ32_remove_b68 at hf
  refine lv_aload_n (pc := 68) hx hb dJ32_remove_68 rfl (lv_at hl 0 rfl) ?_
  refine lv_null (pc := 69) hx hb dJ32_remove_69 ?_
  obtain ⟨S1, e1, hf⟩ := bdo hf
  refine g_put (pc := 70) (o := (some l0)) (a := l0) (ci := 22) (k := 0) (v := .null) (C := RJ32) (T := TJ32) (N := 5) (ty := .object "java/util/LinkedList$Node") hx hb hts hown hE hk hH hS rfl in_J32 tyJ32_ok nmJ32 rfl (by decide) (hts _ q2042) (fun _ h9 => h9) rfl rfl rfl rfl rfl e1 dJ32_remove_70 (fun H locs hH hS => ?_)
  refine lv_aload_n (pc := 73) hx hb dJ32_remove_73 rfl (lv_at hl 0 rfl) ?_
  refine lv_dup (pc := 74) hx hb dJ32_remove_74 rfl ?_
  obtain ⟨v2, e2, hf⟩ := bdo hf
  refine g_get (pc := 75) (o := (some l0)) (a := l0) (ci := 22) (k := 3) (v := .int v2) (C := RJ32) (T := TJ32) (N := 5) hx hb hts hown hE hk hH in_J32 rfl (by decide) (hts _ q2045) (fun _ h9 => h9) rfl (rdI_o e2) dJ32_remove_75 ?_
  refine lv_iconst (pc := 78) (v := nI 1) hx hb dJ32_remove_78 rfl ?_
  refine lv_iadd (pc := 79) hx hb dJ32_remove_79 ?_
  obtain ⟨S3, e3, hf⟩ := bdo hf
  refine g_put (pc := 80) (o := (some l0)) (a := l0) (ci := 22) (k := 3) (v := .int (v2 + (nI 1))) (C := RJ32) (T := TJ32) (N := 5) (ty := .int) hx hb hts hown hE hk hH hS rfl in_J32 tyJ32_ok nmJ32 rfl (by decide) (hts _ q2045) (fun _ h9 => h9) rfl rfl rfl rfl rfl e3 dJ32_remove_80 (fun H locs hH hS => ?_)
  exact g_vret (pc := 83) hx hb hr hlk hH hS hkc hks hf dJ32_remove_83
def fJ32_remove (G : gG) (l0 : Nat) (S : gS) : gO Unit :=
  bd (chk S l0 22) fun _ =>
  gb (fJ32_checkForComodification G l0 S) fun _ S1 =>
  bd (rdR S1 l0 22 0) fun v2 =>
  if v2 = none then
    none
  else
    bd (rdR S1 l0 22 0) fun v4 =>
    bd v4 fun a5 =>
    bd (rdR S1 a5 20 1) fun v6 =>
    bd (rdR S1 l0 22 4) fun v7 =>
    bd (rdR S1 l0 22 0) fun v8 =>
    bd v7 fun a10 =>
    bd (chk S1 a10 16) fun _ =>
    gb (fJ4_unlink G a10 v8 S1) fun v9 S9 =>
    bd (rdR S9 l0 22 1) fun v11 =>
    bd (rdR S9 l0 22 0) fun v12 =>
    if v11 = v12 then
      bd (wr S9 l0 22 1 (va_rf v6)) fun S16 =>
      fJ32_remove_b68 G l0 S16
    else
      bd (rdI S9 l0 22 2) fun v14 =>
      bd (wr S9 l0 22 2 (.int (v14 - (nI 1)))) fun S15 =>
      fJ32_remove_b68 G l0 S15
theorem wJ32_remove_b0 (hk : rOK Rp) (hc : gC p s m args meth c G RJ32 "remove" cJ32_remove 2 (none)) (l0 : Nat) (S : gS) (H : Heap) (locs : List Loc) (ls : Array Slot) (kc ks C N : Nat) (hkc : kc + C ≤ mc) (hks : ks + N ≤ ms) (hH : hp G Rp S H) (hS : va_S G.2.2.2 s.heap H locs) (hl : lv_has ls 2 [(0, .ref l0)]) (hf : fJ32_remove G l0 S = some (r, Sf, C, N)) : W p l e (gR 2 84 mc ms) s m args below meth c H locs kc ks (gQ below G Rp none Sf args s mc ms) (F0 m 0 ls []) := by
  obtain ⟨hx, hb, hr, hlk, hml, hown, hts, hE, hA, hnm⟩ := hc
  have hc : gC p s m args meth c G RJ32 "remove" cJ32_remove 2 (none) := ⟨hx, hb, hr, hlk, hml, hown, hts, hE, hA, hnm⟩
  unfold fJ32_remove at hf
  refine lv_aload_n (pc := 0) hx hb dJ32_remove_0 rfl (lv_at hl 0 rfl) ?_
  obtain ⟨_, ek1, hf⟩ := bdo hf
  obtain ⟨_, S1, c1, n1, c2_1, n2_1, e1, hf, hC1, hN1⟩ := gbo hf
  refine g_callV (pc := 1) (o := (some l0)) (b := l0) (As := []) (rest := []) (st1 := []) hc (mJ32_checkForComodification hk (l0 := l0) e1) (cwV 0 hts (lw_V q1490 q1491 q1492 q152 q1493) rfl rfl rfl jhdJ32_checkForComodification ⟨Nat.le_of_ble_eq_true rfl, Nat.le_of_ble_eq_true rfl⟩) (g_recv hE hk hH (ci := 22) (q := (RJ32, TJ32, 5)) rfl (chk_o ek1).choose_spec) rfl rfl hl.1 rfl rfl (lv_room (Nat.le_of_ble_eq_true rfl)) dJ32_remove_1 hH hS (by omega) (by omega) (fun H locs hH hS => ?_)
  have hkc : kc + c1 + c2_1 ≤ mc := by omega
  have hks : ks + n1 + n2_1 ≤ ms := by omega
  refine lv_aload_n (pc := 4) hx hb dJ32_remove_4 rfl (lv_at hl 0 rfl) ?_
  obtain ⟨v2, e2, hf⟩ := bdo hf
  refine g_get (pc := 5) (o := (some l0)) (a := l0) (ci := 22) (k := 0) (v := va_rf v2) (C := RJ32) (T := TJ32) (N := 5) hx hb hts hown hE hk hH in_J32 rfl (by decide) (hts _ q2042) (fun _ h9 => h9) rfl (rdR_o e2) dJ32_remove_5 ?_
  refine g_ifnonnull (pc := 8) (o := v2) (tgt := 19) hx hb dJ32_remove_8 (by decide) (fun c3 => ?_) (fun c3 => ?_)
  · rw [if_neg c3] at hf
    refine lv_aload_n (pc := 19) hx hb dJ32_remove_19 rfl (lv_at hl 0 rfl) ?_
    obtain ⟨v4, e4, hf⟩ := bdo hf
    refine g_get (pc := 20) (o := (some l0)) (a := l0) (ci := 22) (k := 0) (v := va_rf v4) (C := RJ32) (T := TJ32) (N := 5) hx hb hts hown hE hk hH in_J32 rfl (by decide) (hts _ q2042) (fun _ h9 => h9) rfl (rdR_o e4) dJ32_remove_20 ?_
    obtain ⟨a5, ea5, hf⟩ := bdo hf
    obtain ⟨v6, e6, hf⟩ := bdo hf
    refine g_get (pc := 23) (o := v4) (a := a5) (ci := 20) (k := 1) (v := va_rf v6) (C := RJ29) (T := TJ29) (N := 3) hx hb hts hown hE hk hH in_J29 rfl (by decide) (hts _ q1682) (fun _ h9 => h9) ea5 (rdR_o e6) dJ32_remove_23 ?_
    refine g_astore_n (pc := 26) (i := 1) (o := v6) (lv' := [(1, va_rf v6), (0, .ref l0)]) hx hb dJ32_remove_26 rfl hl (by decide) rfl (fun ls hl => ?_)
    refine lv_aload_n (pc := 27) hx hb dJ32_remove_27 rfl (lv_at hl 1 rfl) ?_
    obtain ⟨v7, e7, hf⟩ := bdo hf
    refine g_get (pc := 28) (o := (some l0)) (a := l0) (ci := 22) (k := 4) (v := va_rf v7) (C := RJ32) (T := TJ32) (N := 5) hx hb hts hown hE hk hH in_J32 rfl (by decide) (hts _ q2046) (fun _ h9 => h9) rfl (rdR_o e7) dJ32_remove_28 ?_
    refine lv_aload_n (pc := 31) hx hb dJ32_remove_31 rfl (lv_at hl 1 rfl) ?_
    obtain ⟨v8, e8, hf⟩ := bdo hf
    refine g_get (pc := 32) (o := (some l0)) (a := l0) (ci := 22) (k := 0) (v := va_rf v8) (C := RJ32) (T := TJ32) (N := 5) hx hb hts hown hE hk hH in_J32 rfl (by decide) (hts _ q2042) (fun _ h9 => h9) rfl (rdR_o e8) dJ32_remove_32 ?_
    obtain ⟨a10, ea10, hf⟩ := bdo hf
    obtain ⟨_, ek9, hf⟩ := bdo hf
    obtain ⟨v9, S9, c9, n9, c2_9, n2_9, e9, hf, hC9, hN9⟩ := gbo hf
    refine g_callV (pc := 35) (o := v7) (b := a10) (As := [va_rf v8]) (rest := []) (st1 := [va_rf v9]) hc (mJ4_unlink hk (l0 := a10) (l1 := v8) e9) (cwV 1 hts (lw_V q2144 q1953 q1954 q103 q1955) rfl rfl rfl jhdJ4_unlink ⟨Nat.le_of_ble_eq_true rfl, Nat.le_of_ble_eq_true rfl⟩) (g_recv hE hk hH (ci := 16) (q := (RJ4, TJ4, 4)) rfl (chk_o ek9).choose_spec) ea10 rfl hl.1 rfl rfl (lv_room (Nat.le_of_ble_eq_true rfl)) dJ32_remove_35 hH hS (by omega) (by omega) (fun H locs hH hS => ?_)
    have hkc : kc + c1 + c9 + c2_9 ≤ mc := by omega
    have hks : ks + n1 + n9 + n2_9 ≤ ms := by omega
    refine lv_pop (pc := 38) hx hb dJ32_remove_38 (va_rf_cat _) ?_
    refine lv_aload_n (pc := 39) hx hb dJ32_remove_39 rfl (lv_at hl 1 rfl) ?_
    obtain ⟨v11, e11, hf⟩ := bdo hf
    refine g_get (pc := 40) (o := (some l0)) (a := l0) (ci := 22) (k := 1) (v := va_rf v11) (C := RJ32) (T := TJ32) (N := 5) hx hb hts hown hE hk hH in_J32 rfl (by decide) (hts _ q2043) (fun _ h9 => h9) rfl (rdR_o e11) dJ32_remove_40 ?_
    refine lv_aload_n (pc := 43) hx hb dJ32_remove_43 rfl (lv_at hl 1 rfl) ?_
    obtain ⟨v12, e12, hf⟩ := bdo hf
    refine g_get (pc := 44) (o := (some l0)) (a := l0) (ci := 22) (k := 0) (v := va_rf v12) (C := RJ32) (T := TJ32) (N := 5) hx hb hts hown hE hk hH in_J32 rfl (by decide) (hts _ q2042) (fun _ h9 => h9) rfl (rdR_o e12) dJ32_remove_44 ?_
    refine lv_acmp_ne (pc := 47) (rx := v11) (ry := v12) (tgt := 58) hx hb dJ32_remove_47 (by decide) (fun c13 => ?_) (fun c13 => ?_)
    · rw [if_neg c13] at hf
      refine lv_aload_n (pc := 58) hx hb dJ32_remove_58 rfl (lv_at hl 1 rfl) ?_
      refine lv_dup (pc := 59) hx hb dJ32_remove_59 rfl ?_
      obtain ⟨v14, e14, hf⟩ := bdo hf
      refine g_get (pc := 60) (o := (some l0)) (a := l0) (ci := 22) (k := 2) (v := .int v14) (C := RJ32) (T := TJ32) (N := 5) hx hb hts hown hE hk hH in_J32 rfl (by decide) (hts _ q2044) (fun _ h9 => h9) rfl (rdI_o e14) dJ32_remove_60 ?_
      refine lv_iconst (pc := 63) (v := nI 1) hx hb dJ32_remove_63 rfl ?_
      refine lv_isub (pc := 64) hx hb dJ32_remove_64 ?_
      obtain ⟨S15, e15, hf⟩ := bdo hf
      refine g_put (pc := 65) (o := (some l0)) (a := l0) (ci := 22) (k := 2) (v := .int (v14 - (nI 1))) (C := RJ32) (T := TJ32) (N := 5) (ty := .int) hx hb hts hown hE hk hH hS rfl in_J32 tyJ32_ok nmJ32 rfl (by decide) (hts _ q2044) (fun _ h9 => h9) rfl rfl rfl rfl rfl e15 dJ32_remove_65 (fun H locs hH hS => ?_)
      exact wJ32_remove_b68 hk hc l0 S15 _ _ ls _ _ _ _ hkc hks hH hS (lv_sub hl [1] rfl) hf
    · rw [if_pos c13] at hf
      refine lv_aload_n (pc := 50) hx hb dJ32_remove_50 rfl (lv_at hl 1 rfl) ?_
      refine g_aload_n (pc := 51) (o := v6) hx hb dJ32_remove_51 rfl (lv_at hl 0 rfl) ?_
      obtain ⟨S16, e16, hf⟩ := bdo hf
      refine g_put (pc := 52) (o := (some l0)) (a := l0) (ci := 22) (k := 1) (v := va_rf v6) (C := RJ32) (T := TJ32) (N := 5) (ty := .object "java/util/LinkedList$Node") hx hb hts hown hE hk hH hS rfl in_J32 tyJ32_ok nmJ32 rfl (by decide) (hts _ q2043) (fun _ h9 => h9) rfl rfl (nar_rf _ _) (fit_rf _ _) rfl e16 dJ32_remove_52 (fun H locs hH hS => ?_)
      refine lv_goto (pc := 55) (tgt := 68) hx hb dJ32_remove_55 (by decide) ?_
      exact wJ32_remove_b68 hk hc l0 S16 _ _ ls _ _ _ _ hkc hks hH hS (lv_sub hl [1] rfl) hf
  · rw [if_pos c3] at hf
    exact absurd hf (fun h => by cases h)
theorem mJ32_remove {l : Launch} {G : gG} {Rp : gM → gM → Nat → Prop} (hk : rOK Rp) {S S2 : gS} {r2 : Unit} {C N : Nat} {l0 : Nat} (hf : fJ32_remove G l0 S = some (r2, S2, C, N)) : gMet l yJ32_remove cJ32_remove 2 (none) 2 84 G Rp [.ref l0] S none S2 C N := by
  refine g_start (by decide) (Nat.le_of_ble_eq_true rfl) (fun p e s m args below meth c ls hc hl hH => ?_)
  have hl : lv_has ls 2 [(0, .ref l0)] := hl
  exact wJ32_remove_b0 hk hc l0 S _ _ ls 0 0 C N (by omega) (by omega) hH va_S.rf (lv_sub hl [0] rfl) hf
end
section
variable {r : Int32} {Sf : gS}
def fJ39_hasNext (G : gG) (l0 : Nat) (S : gS) : gO Int32 :=
  bd (rdI S l0 23 0) fun v1 =>
  bd (rdR S l0 23 5) fun v2 =>
  bd v2 fun a3 =>
  bd (rdI S a3 17 1) fun v4 =>
  if v1 < v4 then
    zg (nI 1) S
  else
    bd (rdR S l0 23 2) fun v6 =>
    if v6 = none then
      zg (nI 0) S
    else
      bd (rdR S l0 23 2) fun v8 =>
      none
theorem wJ39_hasNext_b0 (hk : rOK Rp) (hc : gC p s m args meth c G RJ39 "hasNext" cJ39_hasNext 1 (some .boolean)) (l0 : Nat) (S : gS) (H : Heap) (locs : List Loc) (ls : Array Slot) (kc ks C N : Nat) (hkc : kc + C ≤ mc) (hks : ks + N ≤ ms) (hH : hp G Rp S H) (hS : va_S G.2.2.2 s.heap H locs) (hl : lv_has ls 1 [(0, .ref l0)]) (hf : fJ39_hasNext G l0 S = some (r, Sf, C, N)) : W p l e (gR 1 60 mc ms) s m args below meth c H locs kc ks (gQ below G Rp (some (.int r)) Sf args s mc ms) (F0 m 0 ls []) := by
  obtain ⟨hx, hb, hr, hlk, hml, hown, hts, hE, hA, hnm⟩ := hc
  have hc : gC p s m args meth c G RJ39 "hasNext" cJ39_hasNext 1 (some .boolean) := ⟨hx, hb, hr, hlk, hml, hown, hts, hE, hA, hnm⟩
  unfold fJ39_hasNext at hf
  refine lv_aload_n (pc := 0) hx hb dJ39_hasNext_0 rfl (lv_at hl 0 rfl) ?_
  obtain ⟨v1, e1, hf⟩ := bdo hf
  refine g_get (pc := 1) (o := (some l0)) (a := l0) (ci := 23) (k := 0) (v := .int v1) (C := RJ39) (T := TJ39) (N := 6) hx hb hts hown hE hk hH in_J39 rfl (by decide) (hts _ q2584) (fun _ h9 => h9) rfl (rdI_o e1) dJ39_hasNext_1 ?_
  refine lv_aload_n (pc := 4) hx hb dJ39_hasNext_4 rfl (lv_at hl 0 rfl) ?_
  obtain ⟨v2, e2, hf⟩ := bdo hf
  refine g_get (pc := 5) (o := (some l0)) (a := l0) (ci := 23) (k := 5) (v := va_rf v2) (C := RJ39) (T := TJ39) (N := 6) hx hb hts hown hE hk hH in_J39 rfl (by decide) (hts _ q2589) (fun _ h9 => h9) rfl (rdR_o e2) dJ39_hasNext_5 ?_
  obtain ⟨a3, ea3, hf⟩ := bdo hf
  obtain ⟨v4, e4, hf⟩ := bdo hf
  refine g_get (pc := 8) (o := v2) (a := a3) (ci := 17) (k := 1) (v := .int v4) (C := RJ36) (T := TJ36) (N := 4) hx hb hts hown hE hk hH in_J36 rfl (by decide) (hts _ q2454) (fun _ h9 => h9) ea3 (rdI_o e4) dJ39_hasNext_8 ?_
  refine lv_icmp_lt (pc := 11) (tgt := 31) hx hb dJ39_hasNext_11 (by decide) (fun c5 => ?_) (fun c5 => ?_)
  · rw [if_pos c5] at hf
    refine lv_iconst (pc := 31) (v := nI 1) hx hb dJ39_hasNext_31 rfl ?_
    refine lv_goto (pc := 32) (tgt := 36) hx hb dJ39_hasNext_32 (by decide) ?_
    exact g_zret (pc := 36) hx hb hr hlk hH hS hkc hks hf dJ39_hasNext_36
  · rw [if_neg c5] at hf
    refine lv_aload_n (pc := 14) hx hb dJ39_hasNext_14 rfl (lv_at hl 0 rfl) ?_
    obtain ⟨v6, e6, hf⟩ := bdo hf
    refine g_get (pc := 15) (o := (some l0)) (a := l0) (ci := 23) (k := 2) (v := va_rf v6) (C := RJ39) (T := TJ39) (N := 6) hx hb hts hown hE hk hH in_J39 rfl (by decide) (hts _ q2586) (fun _ h9 => h9) rfl (rdR_o e6) dJ39_hasNext_15 ?_
    refine g_ifnull (pc := 18) (o := v6) (tgt := 35) hx hb dJ39_hasNext_18 (by decide) (fun c7 => ?_) (fun c7 => ?_)
    · rw [if_pos c7] at hf
      refine lv_iconst (pc := 35) (v := nI 0) hx hb dJ39_hasNext_35 rfl ?_
      exact g_zret (pc := 36) hx hb hr hlk hH hS hkc hks hf dJ39_hasNext_36
    · rw [if_neg c7] at hf
      refine lv_aload_n (pc := 21) hx hb dJ39_hasNext_21 rfl (lv_at hl 0 rfl) ?_
      obtain ⟨v8, e8, hf⟩ := bdo hf
      refine g_get (pc := 22) (o := (some l0)) (a := l0) (ci := 23) (k := 2) (v := va_rf v8) (C := RJ39) (T := TJ39) (N := 6) hx hb hts hown hE hk hH in_J39 rfl (by decide) (hts _ q2586) (fun _ h9 => h9) rfl (rdR_o e8) dJ39_hasNext_22 ?_
      exact absurd hf (fun h => by cases h)
theorem mJ39_hasNext {l : Launch} {G : gG} {Rp : gM → gM → Nat → Prop} (hk : rOK Rp) {S S2 : gS} {r2 : Int32} {C N : Nat} {l0 : Nat} (hf : fJ39_hasNext G l0 S = some (r2, S2, C, N)) : gMet l yJ39_hasNext cJ39_hasNext 1 (some .boolean) 1 60 G Rp [.ref l0] S (some (.int r2)) S2 C N := by
  refine g_start (by decide) (Nat.le_of_ble_eq_true rfl) (fun p e s m args below meth c ls hc hl hH => ?_)
  have hl : lv_has ls 1 [(0, .ref l0)] := hl
  exact wJ39_hasNext_b0 hk hc l0 S _ _ ls 0 0 C N (by omega) (by omega) hH va_S.rf (lv_sub hl [0] rfl) hf
end
section
variable {r : Option Nat} {Sf : gS}
def fJ39_next (G : gG) (l0 : Nat) (S : gS) : gO (Option Nat) :=
  bd (rdI S l0 23 4) fun v1 =>
  bd (rdR S l0 23 5) fun v2 =>
  bd v2 fun a3 =>
  bd (rdI S a3 17 3) fun v4 =>
  if v1 = v4 then
    bd (rdI S l0 23 0) fun v6 =>
    bd (rdR S l0 23 5) fun v7 =>
    bd v7 fun a8 =>
    bd (rdI S a8 17 1) fun v9 =>
    if v9 ≤ v6 then
      bd (rdR S l0 23 2) fun v11 =>
      if v11 = none then
        none
      else
        bd (wr S l0 23 1 (.int (-1))) fun S13 =>
        bd (rdR S13 l0 23 2) fun v14 =>
        none
    else
      bd (rdR S l0 23 5) fun v15 =>
      bd v15 fun a16 =>
      bd (rdR S a16 17 0) fun v17 =>
      bd (rdI S l0 23 0) fun v18 =>
      bd (wr S l0 23 0 (.int (v18 + (nI 1)))) fun S19 =>
      bd (wr S19 l0 23 1 (.int v18)) fun S20 =>
      bd v17 fun a21 =>
      bd (rdAq S20 a21 5 v18) fun v22 =>
      some (v22, S20, 0, 0)
  else
    none
theorem wJ39_next_b0 (hk : rOK Rp) (hc : gC p s m args meth c G RJ39 "next" cJ39_next 1 (some (.object "java/lang/Object"))) (l0 : Nat) (S : gS) (H : Heap) (locs : List Loc) (ls : Array Slot) (kc ks C N : Nat) (hkc : kc + C ≤ mc) (hks : ks + N ≤ ms) (hH : hp G Rp S H) (hS : va_S G.2.2.2 s.heap H locs) (hl : lv_has ls 1 [(0, .ref l0)]) (hf : fJ39_next G l0 S = some (r, Sf, C, N)) : W p l e (gR 1 60 mc ms) s m args below meth c H locs kc ks (gQ below G Rp (some (va_rf r)) Sf args s mc ms) (F0 m 0 ls []) := by
  obtain ⟨hx, hb, hr, hlk, hml, hown, hts, hE, hA, hnm⟩ := hc
  have hc : gC p s m args meth c G RJ39 "next" cJ39_next 1 (some (.object "java/lang/Object")) := ⟨hx, hb, hr, hlk, hml, hown, hts, hE, hA, hnm⟩
  unfold fJ39_next at hf
  refine lv_aload_n (pc := 0) hx hb dJ39_next_0 rfl (lv_at hl 0 rfl) ?_
  obtain ⟨v1, e1, hf⟩ := bdo hf
  refine g_get (pc := 1) (o := (some l0)) (a := l0) (ci := 23) (k := 4) (v := .int v1) (C := RJ39) (T := TJ39) (N := 6) hx hb hts hown hE hk hH in_J39 rfl (by decide) (hts _ q2588) (fun _ h9 => h9) rfl (rdI_o e1) dJ39_next_1 ?_
  refine lv_aload_n (pc := 4) hx hb dJ39_next_4 rfl (lv_at hl 0 rfl) ?_
  obtain ⟨v2, e2, hf⟩ := bdo hf
  refine g_get (pc := 5) (o := (some l0)) (a := l0) (ci := 23) (k := 5) (v := va_rf v2) (C := RJ39) (T := TJ39) (N := 6) hx hb hts hown hE hk hH in_J39 rfl (by decide) (hts _ q2589) (fun _ h9 => h9) rfl (rdR_o e2) dJ39_next_5 ?_
  obtain ⟨a3, ea3, hf⟩ := bdo hf
  obtain ⟨v4, e4, hf⟩ := bdo hf
  refine g_get (pc := 8) (o := v2) (a := a3) (ci := 17) (k := 3) (v := .int v4) (C := RJ36) (T := TJ36) (N := 4) hx hb hts hown hE hk hH in_J36 rfl (by decide) (hts _ q2457) (fun _ h9 => h9) ea3 (rdI_o e4) dJ39_next_8 ?_
  refine lv_icmp_eq (pc := 11) (tgt := 22) hx hb dJ39_next_11 (by decide) (fun c5 => ?_) (fun c5 => ?_)
  · rw [if_pos c5] at hf
    refine lv_aload_n (pc := 22) hx hb dJ39_next_22 rfl (lv_at hl 0 rfl) ?_
    obtain ⟨v6, e6, hf⟩ := bdo hf
    refine g_get (pc := 23) (o := (some l0)) (a := l0) (ci := 23) (k := 0) (v := .int v6) (C := RJ39) (T := TJ39) (N := 6) hx hb hts hown hE hk hH in_J39 rfl (by decide) (hts _ q2584) (fun _ h9 => h9) rfl (rdI_o e6) dJ39_next_23 ?_
    refine lv_aload_n (pc := 26) hx hb dJ39_next_26 rfl (lv_at hl 0 rfl) ?_
    obtain ⟨v7, e7, hf⟩ := bdo hf
    refine g_get (pc := 27) (o := (some l0)) (a := l0) (ci := 23) (k := 5) (v := va_rf v7) (C := RJ39) (T := TJ39) (N := 6) hx hb hts hown hE hk hH in_J39 rfl (by decide) (hts _ q2589) (fun _ h9 => h9) rfl (rdR_o e7) dJ39_next_27 ?_
    obtain ⟨a8, ea8, hf⟩ := bdo hf
    obtain ⟨v9, e9, hf⟩ := bdo hf
    refine g_get (pc := 30) (o := v7) (a := a8) (ci := 17) (k := 1) (v := .int v9) (C := RJ36) (T := TJ36) (N := 4) hx hb hts hown hE hk hH in_J36 rfl (by decide) (hts _ q2454) (fun _ h9 => h9) ea8 (rdI_o e9) dJ39_next_30 ?_
    refine lv_icmp_ge (pc := 33) (tgt := 61) hx hb dJ39_next_33 (by decide) (fun c10 => ?_) (fun c10 => ?_)
    · rw [if_pos c10] at hf
      refine lv_aload_n (pc := 61) hx hb dJ39_next_61 rfl (lv_at hl 0 rfl) ?_
      obtain ⟨v11, e11, hf⟩ := bdo hf
      refine g_get (pc := 62) (o := (some l0)) (a := l0) (ci := 23) (k := 2) (v := va_rf v11) (C := RJ39) (T := TJ39) (N := 6) hx hb hts hown hE hk hH in_J39 rfl (by decide) (hts _ q2586) (fun _ h9 => h9) rfl (rdR_o e11) dJ39_next_62 ?_
      refine g_ifnull (pc := 65) (o := v11) (tgt := 96) hx hb dJ39_next_65 (by decide) (fun c12 => ?_) (fun c12 => ?_)
      · rw [if_pos c12] at hf
        exact absurd hf (fun h => by cases h)
      · rw [if_neg c12] at hf
        refine lv_aload_n (pc := 68) hx hb dJ39_next_68 rfl (lv_at hl 0 rfl) ?_
        refine lv_iconst (pc := 69) (v := -1) hx hb dJ39_next_69 rfl ?_
        obtain ⟨S13, e13, hf⟩ := bdo hf
        refine g_put (pc := 70) (o := (some l0)) (a := l0) (ci := 23) (k := 1) (v := .int (-1)) (C := RJ39) (T := TJ39) (N := 6) (ty := .int) hx hb hts hown hE hk hH hS rfl in_J39 tyJ39_ok nmJ39 rfl (by decide) (hts _ q2585) (fun _ h9 => h9) rfl rfl rfl rfl rfl e13 dJ39_next_70 (fun H locs hH hS => ?_)
        refine lv_aload_n (pc := 73) hx hb dJ39_next_73 rfl (lv_at hl 0 rfl) ?_
        refine lv_aload_n (pc := 74) hx hb dJ39_next_74 rfl (lv_at hl 0 rfl) ?_
        obtain ⟨v14, e14, hf⟩ := bdo hf
        refine g_get (pc := 75) (o := (some l0)) (a := l0) (ci := 23) (k := 2) (v := va_rf v14) (C := RJ39) (T := TJ39) (N := 6) hx hb hts hown hE hk hH in_J39 rfl (by decide) (hts _ q2586) (fun _ h9 => h9) rfl (rdR_o e14) dJ39_next_75 ?_
        exact absurd hf (fun h => by cases h)
    · rw [if_neg c10] at hf
      refine lv_aload_n (pc := 36) hx hb dJ39_next_36 rfl (lv_at hl 0 rfl) ?_
      obtain ⟨v15, e15, hf⟩ := bdo hf
      refine g_get (pc := 37) (o := (some l0)) (a := l0) (ci := 23) (k := 5) (v := va_rf v15) (C := RJ39) (T := TJ39) (N := 6) hx hb hts hown hE hk hH in_J39 rfl (by decide) (hts _ q2589) (fun _ h9 => h9) rfl (rdR_o e15) dJ39_next_37 ?_
      obtain ⟨a16, ea16, hf⟩ := bdo hf
      obtain ⟨v17, e17, hf⟩ := bdo hf
      refine g_get (pc := 40) (o := v15) (a := a16) (ci := 17) (k := 0) (v := va_rf v17) (C := RJ36) (T := TJ36) (N := 4) hx hb hts hown hE hk hH in_J36 rfl (by decide) (hts _ q2452) (fun _ h9 => h9) ea16 (rdR_o e17) dJ39_next_40 ?_
      refine lv_aload_n (pc := 43) hx hb dJ39_next_43 rfl (lv_at hl 0 rfl) ?_
      refine lv_aload_n (pc := 44) hx hb dJ39_next_44 rfl (lv_at hl 0 rfl) ?_
      refine lv_dup (pc := 45) hx hb dJ39_next_45 rfl ?_
      obtain ⟨v18, e18, hf⟩ := bdo hf
      refine g_get (pc := 46) (o := (some l0)) (a := l0) (ci := 23) (k := 0) (v := .int v18) (C := RJ39) (T := TJ39) (N := 6) hx hb hts hown hE hk hH in_J39 rfl (by decide) (hts _ q2584) (fun _ h9 => h9) rfl (rdI_o e18) dJ39_next_46 ?_
      refine lv_dup_x1 (pc := 49) hx hb dJ39_next_49 rfl rfl ?_
      refine lv_iconst (pc := 50) (v := nI 1) hx hb dJ39_next_50 rfl ?_
      refine lv_iadd (pc := 51) hx hb dJ39_next_51 ?_
      obtain ⟨S19, e19, hf⟩ := bdo hf
      refine g_put (pc := 52) (o := (some l0)) (a := l0) (ci := 23) (k := 0) (v := .int (v18 + (nI 1))) (C := RJ39) (T := TJ39) (N := 6) (ty := .int) hx hb hts hown hE hk hH hS rfl in_J39 tyJ39_ok nmJ39 rfl (by decide) (hts _ q2584) (fun _ h9 => h9) rfl rfl rfl rfl rfl e19 dJ39_next_52 (fun H locs hH hS => ?_)
      refine lv_dup_x1 (pc := 55) hx hb dJ39_next_55 rfl rfl ?_
      obtain ⟨S20, e20, hf⟩ := bdo hf
      refine g_put (pc := 56) (o := (some l0)) (a := l0) (ci := 23) (k := 1) (v := .int v18) (C := RJ39) (T := TJ39) (N := 6) (ty := .int) hx hb hts hown hE hk hH hS rfl in_J39 tyJ39_ok nmJ39 rfl (by decide) (hts _ q2585) (fun _ h9 => h9) rfl rfl rfl rfl rfl e20 dJ39_next_56 (fun H locs hH hS => ?_)
      obtain ⟨a21, ea21, hf⟩ := bdo hf
      obtain ⟨v22, e22, hf⟩ := bdo hf
      refine g_aald (pc := 59) (o := v17) (a := a21) (t := 5) (t0 := 5) hx hb hE hk hH rfl ea21 e22 dJ39_next_59 ?_
      exact g_aret (pc := 60) (v := v22) hx hb hr (Or.inl ⟨_, rfl⟩) hlk hH hS hkc hks hf dJ39_next_60
  · rw [if_neg c5] at hf
    exact absurd hf (fun h => by cases h)
theorem mJ39_next {l : Launch} {G : gG} {Rp : gM → gM → Nat → Prop} (hk : rOK Rp) {S S2 : gS} {r2 : Option Nat} {C N : Nat} {l0 : Nat} (hf : fJ39_next G l0 S = some (r2, S2, C, N)) : gMet l yJ39_next cJ39_next 1 (some (.object "java/lang/Object")) 1 60 G Rp [.ref l0] S (some (va_rf r2)) S2 C N := by
  refine g_start (by decide) (Nat.le_of_ble_eq_true rfl) (fun p e s m args below meth c ls hc hl hH => ?_)
  have hl : lv_has ls 1 [(0, .ref l0)] := hl
  exact wJ39_next_b0 hk hc l0 S _ _ ls 0 0 C N (by omega) (by omega) hH va_S.rf (lv_sub hl [0] rfl) hf
end
end
