/-! printed by gen/jgen.py: methods of the JDK, lifted and walked at the plain level (3) -/
set_option maxRecDepth 100000
set_option maxHeartbeats 4000000
section
variable {p : Program} {l : Launch} {e : Env} {s : State} {m : MethodId} {args : Array Value} {below : List Frame} {meth : Method} {c : Code} {G : gG} {Rp : gM → gM → Nat → Prop} {mc ms : Nat}
section
variable {r : Option Nat} {Sf : gS}
def fJ4_removeFirst (G : gG) (l0 : Nat) (S : gS) : gO (Option Nat) :=
  bd (rdR S l0 16 2) fun v1 =>
  if v1 = none then
    none
  else
    bd (chk S l0 16) fun _ =>
    gb (fJ4_unlinkFirst G l0 v1 S) fun v3 S3 =>
    some (v3, S3, 0, 0)
theorem wJ4_removeFirst_b0 (hk : rOK Rp) (hc : gC p s m args meth c G RJ4 "removeFirst" cJ4_removeFirst 2 (some (.object "java/lang/Object"))) (l0 : Nat) (S : gS) (H : Heap) (locs : List Loc) (ls : Array Slot) (kc ks C N : Nat) (hkc : kc + C ≤ mc) (hks : ks + N ≤ ms) (hH : hp G Rp S H) (hS : va_S G.2.2.2 s.heap H locs) (hl : lv_has ls 2 [(0, .ref l0)]) (hf : fJ4_removeFirst G l0 S = some (r, Sf, C, N)) : W p l e (gR 2 83 mc ms) s m args below meth c H locs kc ks (gQ below G Rp (some (va_rf r)) Sf args s mc ms) (F0 m 0 ls []) := by
  obtain ⟨hx, hb, hr, hlk, hml, hown, hts, hE, hA, hnm⟩ := hc
  have hc : gC p s m args meth c G RJ4 "removeFirst" cJ4_removeFirst 2 (some (.object "java/lang/Object")) := ⟨hx, hb, hr, hlk, hml, hown, hts, hE, hA, hnm⟩
  unfold fJ4_removeFirst at hf
  refine lv_aload_n (pc := 0) hx hb dJ4_removeFirst_0 rfl (lv_at hl 0 rfl) ?_
  obtain ⟨v1, e1, hf⟩ := bdo hf
  refine g_get (pc := 1) (o := (some l0)) (a := l0) (ci := 16) (k := 2) (v := va_rf v1) (C := RJ4) (T := TJ4) (N := 4) hx hb hts hown hE hk hH in_J4 rfl (by decide) (hts _ q221) (fun _ h9 => h9) rfl (rdR_o e1) dJ4_removeFirst_1 ?_
  refine g_astore_n (pc := 4) (i := 1) (o := v1) (lv' := [(1, va_rf v1), (0, .ref l0)]) hx hb dJ4_removeFirst_4 rfl hl (by decide) rfl (fun ls hl => ?_)
  refine g_aload_n (pc := 5) (o := v1) hx hb dJ4_removeFirst_5 rfl (lv_at hl 0 rfl) ?_
  refine g_ifnonnull (pc := 6) (o := v1) (tgt := 17) hx hb dJ4_removeFirst_6 (by decide) (fun c2 => ?_) (fun c2 => ?_)
  · rw [if_neg c2] at hf
    refine lv_aload_n (pc := 17) hx hb dJ4_removeFirst_17 rfl (lv_at hl 1 rfl) ?_
    refine g_aload_n (pc := 18) (o := v1) hx hb dJ4_removeFirst_18 rfl (lv_at hl 0 rfl) ?_
    obtain ⟨_, ek3, hf⟩ := bdo hf
    obtain ⟨v3, S3, c3, n3, c2_3, n2_3, e3, hf, hC3, hN3⟩ := gbo hf
    refine g_callV (pc := 19) (o := (some l0)) (b := l0) (As := [va_rf v1]) (rest := []) (st1 := [va_rf v3]) hc (mJ4_unlinkFirst hk (l0 := l0) (l1 := v1) e3) (cwV 1 hts (lw_V q1698 q1700 qs26 q103 q1701) rfl rfl rfl jhdJ4_unlinkFirst ⟨Nat.le_of_ble_eq_true rfl, Nat.le_of_ble_eq_true rfl⟩) (g_recv hE hk hH (ci := 16) (q := (RJ4, TJ4, 4)) rfl (chk_o ek3).choose_spec) rfl rfl hl.1 rfl rfl (lv_room (Nat.le_of_ble_eq_true rfl)) dJ4_removeFirst_19 hH hS (by omega) (by omega) (fun H locs hH hS => ?_)
    have hkc : kc + c3 + c2_3 ≤ mc := by omega
    have hks : ks + n3 + n2_3 ≤ ms := by omega
    exact g_aret (pc := 22) (v := v3) hx hb hr (Or.inl ⟨_, rfl⟩) hlk hH hS hkc hks hf dJ4_removeFirst_22
  · rw [if_pos c2] at hf
    exact absurd hf (fun h => by cases h)
theorem mJ4_removeFirst {l : Launch} {G : gG} {Rp : gM → gM → Nat → Prop} (hk : rOK Rp) {S S2 : gS} {r2 : Option Nat} {C N : Nat} {l0 : Nat} (hf : fJ4_removeFirst G l0 S = some (r2, S2, C, N)) : gMet l yJ4_removeFirst cJ4_removeFirst 2 (some (.object "java/lang/Object")) 2 83 G Rp [.ref l0] S (some (va_rf r2)) S2 C N := by
  refine g_start (by decide) (Nat.le_of_ble_eq_true rfl) (fun p e s m args below meth c ls hc hl hH => ?_)
  have hl : lv_has ls 2 [(0, .ref l0)] := hl
  exact wJ4_removeFirst_b0 hk hc l0 S _ _ ls 0 0 C N (by omega) (by omega) hH va_S.rf (lv_sub hl [0] rfl) hf
end
section
variable {r : Unit} {Sf : gS}
def fJ32_init (G : gG) (l0 : Nat) (l1 : Option Nat) (l2 : Int32) (S : gS) : gO Unit :=
  bd (wr S l0 22 4 (va_rf l1)) fun S1 =>
  bd (rdR S1 l0 22 4) fun v3 =>
  bd v3 fun a4 =>
  bd (rdI S1 a4 16 0) fun v5 =>
  bd (wr S1 l0 22 3 (.int v5)) fun S6 =>
  bd l1 fun a7 =>
  bd (rdI S6 a7 16 1) fun v8 =>
  if l2 = v8 then
    bd (wr S6 l0 22 1 (.null)) fun S13 =>
    bd (wr S13 l0 22 2 (.int l2)) fun S14 =>
    some ((), S14, 0, 0)
  else
    bd (chk S6 a7 16) fun _ =>
    gb (fJ4_node G a7 l2 S6) fun v10 S10 =>
    bd (wr S10 l0 22 1 (va_rf v10)) fun S11 =>
    bd (wr S11 l0 22 2 (.int l2)) fun S12 =>
    some ((), S12, 0, 0)
theorem wJ32_init_b0 (hk : rOK Rp) (hc : gC p s m args meth c G RJ32 "<init>" cJ32_init 3 (none)) (l0 : Nat) (l1 : Option Nat) (l2 : Int32) (S : gS) (H : Heap) (locs : List Loc) (ls : Array Slot) (kc ks C N : Nat) (hkc : kc + C ≤ mc) (hks : ks + N ≤ ms) (hH : hp G Rp S H) (hS : va_S G.2.2.2 s.heap H locs) (hl : lv_has ls 3 [(0, .ref l0), (1, va_rf l1), (2, .int l2)]) (hf : fJ32_init G l0 l1 l2 S = some (r, Sf, C, N)) : W p l e (gR 2 83 mc ms) s m args below meth c H locs kc ks (gQ below G Rp none Sf args s mc ms) (F0 m 0 ls []) := by
  obtain ⟨hx, hb, hr, hlk, hml, hown, hts, hE, hA, hnm⟩ := hc
  have hc : gC p s m args meth c G RJ32 "<init>" cJ32_init 3 (none) := ⟨hx, hb, hr, hlk, hml, hown, hts, hE, hA, hnm⟩
  unfold fJ32_init at hf
  refine lv_aload_n (pc := 0) hx hb dJ32_init_0 rfl (lv_at hl 0 rfl) ?_
  refine g_aload_n (pc := 1) (o := l1) hx hb dJ32_init_1 rfl (lv_at hl 1 rfl) ?_
  obtain ⟨S1, e1, hf⟩ := bdo hf
  refine g_putF (pc := 2) (o := (some l0)) (a := l0) (ci := 22) (k := 4) (v := va_rf l1) (C := RJ32) (T := TJ32) (N := 5) (ty := .object "java/util/LinkedList") hx hb hts hown hE hk hH hS rfl in_J32 tyJ32_ok nmJ32 rfl (by decide) (hts _ q2046) (fun _ h9 => h9) rfl hnm rfl rfl (nar_rf _ _) (fit_rf _ _) rfl e1 dJ32_init_2 (fun H locs hH hS => ?_)
  refine lv_aload_n (pc := 5) hx hb dJ32_init_5 rfl (lv_at hl 0 rfl) ?_
  refine W.objInit  hx hb hown (hts _ q2040) (hts _ q169) (hts _ q170) rfl (by rw [hml]; exact hl.1) rfl dJ32_init_6 (Nat.le_of_ble_eq_true rfl) (Nat.le_of_ble_eq_true rfl) ?_
  refine W.eq (g2 := F0 m 9 ls []) rfl ?_
  refine lv_aload_n (pc := 9) hx hb dJ32_init_9 rfl (lv_at hl 0 rfl) ?_
  refine lv_aload_n (pc := 10) hx hb dJ32_init_10 rfl (lv_at hl 0 rfl) ?_
  obtain ⟨v3, e3, hf⟩ := bdo hf
  refine g_get (pc := 11) (o := (some l0)) (a := l0) (ci := 22) (k := 4) (v := va_rf v3) (C := RJ32) (T := TJ32) (N := 5) hx hb hts hown hE hk hH in_J32 rfl (by decide) (hts _ q2046) (fun _ h9 => h9) rfl (rdR_o e3) dJ32_init_11 ?_
  obtain ⟨a4, ea4, hf⟩ := bdo hf
  obtain ⟨v5, e5, hf⟩ := bdo hf
  refine g_get (pc := 14) (o := v3) (a := a4) (ci := 16) (k := 0) (v := .int v5) (C := RJ4) (T := TJ4) (N := 4) hx hb hts hown hE hk hH in_J4 rfl (by decide) (hts _ q196) (fun x h9 => u_same (hts _ q197) x h9) ea4 (rdI_o e5) dJ32_init_14 ?_
  obtain ⟨S6, e6, hf⟩ := bdo hf
  refine g_put (pc := 17) (o := (some l0)) (a := l0) (ci := 22) (k := 3) (v := .int v5) (C := RJ32) (T := TJ32) (N := 5) (ty := .int) hx hb hts hown hE hk hH hS rfl in_J32 tyJ32_ok nmJ32 rfl (by decide) (hts _ q2045) (fun _ h9 => h9) rfl rfl rfl rfl rfl e6 dJ32_init_17 (fun H locs hH hS => ?_)
  refine lv_aload_n (pc := 20) hx hb dJ32_init_20 rfl (lv_at hl 0 rfl) ?_
  refine lv_iload_n (pc := 21) hx hb dJ32_init_21 rfl (lv_at hl 2 rfl) ?_
  refine g_aload_n (pc := 22) (o := l1) hx hb dJ32_init_22 rfl (lv_at hl 1 rfl) ?_
  obtain ⟨a7, ea7, hf⟩ := bdo hf
  obtain ⟨v8, e8, hf⟩ := bdo hf
  refine g_get (pc := 23) (o := l1) (a := a7) (ci := 16) (k := 1) (v := .int v8) (C := RJ4) (T := TJ4) (N := 4) hx hb hts hown hE hk hH in_J4 rfl (by decide) (hts _ q220) (fun _ h9 => h9) ea7 (rdI_o e8) dJ32_init_23 ?_
  refine lv_icmp_ne (pc := 26) (tgt := 33) hx hb dJ32_init_26 (by decide) (fun c9 => ?_) (fun c9 => ?_)
  · rw [if_neg c9] at hf
    refine g_aload_n (pc := 33) (o := l1) hx hb dJ32_init_33 rfl (lv_at hl 1 rfl) ?_
    refine lv_iload_n (pc := 34) hx hb dJ32_init_34 rfl (lv_at hl 2 rfl) ?_
    obtain ⟨_, ek10, hf⟩ := bdo hf
    obtain ⟨v10, S10, c10, n10, c2_10, n2_10, e10, hf, hC10, hN10⟩ := gbo hf
    refine g_callV (pc := 35) (o := l1) (b := a7) (As := [.int l2]) (rest := [.ref l0]) (st1 := [va_rf v10, .ref l0]) hc (mJ4_node hk (l0 := a7) (l1 := l2) e10) (cwV 1 hts (lw_V q2041 q845 q846 q103 q847) rfl rfl rfl jhdJ4_node ⟨Nat.le_of_ble_eq_true rfl, Nat.le_of_ble_eq_true rfl⟩) (g_recv hE hk hH (ci := 16) (q := (RJ4, TJ4, 4)) rfl (chk_o ek10).choose_spec) ea7 rfl hl.1 rfl rfl (lv_room (Nat.le_of_ble_eq_true rfl)) dJ32_init_35 hH hS (by omega) (by omega) (fun H locs hH hS => ?_)
    have hkc : kc + c10 + c2_10 ≤ mc := by omega
    have hks : ks + n10 + n2_10 ≤ ms := by omega
    obtain ⟨S11, e11, hf⟩ := bdo hf
    refine g_put (pc := 38) (o := (some l0)) (a := l0) (ci := 22) (k := 1) (v := va_rf v10) (C := RJ32) (T := TJ32) (N := 5) (ty := .object "java/util/LinkedList$Node") hx hb hts hown hE hk hH hS rfl in_J32 tyJ32_ok nmJ32 rfl (by decide) (hts _ q2043) (fun _ h9 => h9) rfl rfl (nar_rf _ _) (fit_rf _ _) rfl e11 dJ32_init_38 (fun H locs hH hS => ?_)
    refine lv_aload_n (pc := 41) hx hb dJ32_init_41 rfl (lv_at hl 0 rfl) ?_
    refine lv_iload_n (pc := 42) hx hb dJ32_init_42 rfl (lv_at hl 2 rfl) ?_
    obtain ⟨S12, e12, hf⟩ := bdo hf
    refine g_put (pc := 43) (o := (some l0)) (a := l0) (ci := 22) (k := 2) (v := .int l2) (C := RJ32) (T := TJ32) (N := 5) (ty := .int) hx hb hts hown hE hk hH hS rfl in_J32 tyJ32_ok nmJ32 rfl (by decide) (hts _ q2044) (fun _ h9 => h9) rfl rfl rfl rfl rfl e12 dJ32_init_43 (fun H locs hH hS => ?_)
    exact g_vret (pc := 46) hx hb hr hlk hH hS hkc hks hf dJ32_init_46
  · rw [if_pos c9] at hf
    refine lv_null (pc := 29) hx hb dJ32_init_29 ?_
    refine lv_goto (pc := 30) (tgt := 38) hx hb dJ32_init_30 (by decide) ?_
    obtain ⟨S13, e13, hf⟩ := bdo hf
    refine g_put (pc := 38) (o := (some l0)) (a := l0) (ci := 22) (k := 1) (v := .null) (C := RJ32) (T := TJ32) (N := 5) (ty := .object "java/util/LinkedList$Node") hx hb hts hown hE hk hH hS rfl in_J32 tyJ32_ok nmJ32 rfl (by decide) (hts _ q2043) (fun _ h9 => h9) rfl rfl rfl rfl rfl e13 dJ32_init_38 (fun H locs hH hS => ?_)
    refine lv_aload_n (pc := 41) hx hb dJ32_init_41 rfl (lv_at hl 0 rfl) ?_
    refine lv_iload_n (pc := 42) hx hb dJ32_init_42 rfl (lv_at hl 2 rfl) ?_
    obtain ⟨S14, e14, hf⟩ := bdo hf
    refine g_put (pc := 43) (o := (some l0)) (a := l0) (ci := 22) (k := 2) (v := .int l2) (C := RJ32) (T := TJ32) (N := 5) (ty := .int) hx hb hts hown hE hk hH hS rfl in_J32 tyJ32_ok nmJ32 rfl (by decide) (hts _ q2044) (fun _ h9 => h9) rfl rfl rfl rfl rfl e14 dJ32_init_43 (fun H locs hH hS => ?_)
    exact g_vret (pc := 46) hx hb hr hlk hH hS hkc hks hf dJ32_init_46
theorem mJ32_init {l : Launch} {G : gG} {Rp : gM → gM → Nat → Prop} (hk : rOK Rp) {S S2 : gS} {r2 : Unit} {C N : Nat} {l0 : Nat} {l1 : Option Nat} {l2 : Int32} (hf : fJ32_init G l0 l1 l2 S = some (r2, S2, C, N)) : gMet l yJ32_init cJ32_init 3 (none) 2 83 G Rp [.ref l0, va_rf l1, .int l2] S none S2 C N := by
  refine g_start (by decide) (by simp [lg_sl, va_rf_cat, cat_i, cat_j, cat_r]) (fun p e s m args below meth c ls hc hl hH => ?_)
  have hl : lv_has ls 3 [(0, .ref l0), (1, va_rf l1), (2, .int l2)] := by simpa [lv_args, va_rf_cat, cat_i, cat_j, cat_r] using hl
  exact wJ32_init_b0 hk hc l0 l1 l2 S _ _ ls 0 0 C N (by omega) (by omega) hH va_S.rf (lv_sub hl [0, 1, 2] rfl) hf
end
section
variable {r : Option Nat} {Sf : gS}
def fJ4_listIterator (G : gG) (l0 : Nat) (l1 : Int32) (S : gS) : gO (Option Nat) :=
  bd (chk S l0 16) fun _ =>
  gb (fJ4_checkPositionIndex G l0 l1 S) fun _ S1 =>
  nw S1 (cO 22 [.null, .null, .int 0, .int 0, .null]) 5 fun S2 =>
  gb (fJ32_init G S1.2 (some l0) l1 S2) fun _ S3 =>
  some ((some S1.2), S3, 0, 0)
theorem wJ4_listIterator_b0 (hk : rOK Rp) (hc : gC p s m args meth c G RJ4 "listIterator" cJ4_listIterator 2 (some (.object "java/util/ListIterator"))) (l0 : Nat) (l1 : Int32) (S : gS) (H : Heap) (locs : List Loc) (ls : Array Slot) (kc ks C N : Nat) (hkc : kc + C ≤ mc) (hks : ks + N ≤ ms) (hH : hp G Rp S H) (hS : va_S G.2.2.2 s.heap H locs) (hl : lv_has ls 2 [(0, .ref l0), (1, .int l1)]) (hf : fJ4_listIterator G l0 l1 S = some (r, Sf, C, N)) : W p l e (gR 3 105 mc ms) s m args below meth c H locs kc ks (gQ below G Rp (some (va_rf r)) Sf args s mc ms) (F0 m 0 ls []) := by
  obtain ⟨hx, hb, hr, hlk, hml, hown, hts, hE, hA, hnm⟩ := hc
  have hc : gC p s m args meth c G RJ4 "listIterator" cJ4_listIterator 2 (some (.object "java/util/ListIterator")) := ⟨hx, hb, hr, hlk, hml, hown, hts, hE, hA, hnm⟩
  unfold fJ4_listIterator at hf
  refine lv_aload_n (pc := 0) hx hb dJ4_listIterator_0 rfl (lv_at hl 0 rfl) ?_
  refine lv_iload_n (pc := 1) hx hb dJ4_listIterator_1 rfl (lv_at hl 1 rfl) ?_
  obtain ⟨_, ek1, hf⟩ := bdo hf
  obtain ⟨_, S1, c1, n1, c2_1, n2_1, e1, hf, hC1, hN1⟩ := gbo hf
  refine g_callV (pc := 2) (o := (some l0)) (b := l0) (As := [.int l1]) (rest := []) (st1 := []) hc (mJ4_checkPositionIndex hk (l0 := l0) (l1 := l1) e1) (cwV 1 hts (lw_V q2027 q2029 qs35 q103 q2030) rfl rfl rfl jhdJ4_checkPositionIndex ⟨Nat.le_of_ble_eq_true rfl, Nat.le_of_ble_eq_true rfl⟩) (g_recv hE hk hH (ci := 16) (q := (RJ4, TJ4, 4)) rfl (chk_o ek1).choose_spec) rfl rfl hl.1 rfl rfl (lv_room (Nat.le_of_ble_eq_true rfl)) dJ4_listIterator_2 hH hS (by omega) (by omega) (fun H locs hH hS => ?_)
  have hkc : kc + c1 + c2_1 ≤ mc := by omega
  have hks : ks + n1 + n2_1 ≤ ms := by omega
  obtain ⟨S2, c2_2, n2_2, eS2, hf, hC2, hN2⟩ := nwo hf
  refine g_newo (pc := 5) (ci := 22) (C := RJ32) (T := TJ32) (N := 5) (fs := [.null, .null, .int 0, .int 0, .null]) hx hb hts hown hE hA hk hH hS in_J32 tyJ32_ok q2035 q2036 q152 rfl (fun j hj => by rcases (show j = 0 ∨ j = 1 ∨ j = 2 ∨ j = 3 ∨ j = 4 by omega) with rfl | rfl | rfl | rfl | rfl <;> rfl) eS2 (Nat.le_trans (by omega) hkc) (Nat.le_trans (by omega) hks) dJ4_listIterator_5 (fun H hH hS => ?_)
  have hkc : kc + c1 + 1 + c2_2 ≤ mc := by omega
  have hks : ks + n1 + 5 + n2_2 ≤ ms := by omega
  refine lv_dup (pc := 8) hx hb dJ4_listIterator_8 rfl ?_
  refine lv_aload_n (pc := 9) hx hb dJ4_listIterator_9 rfl (lv_at hl 0 rfl) ?_
  refine lv_iload_n (pc := 10) hx hb dJ4_listIterator_10 rfl (lv_at hl 1 rfl) ?_
  obtain ⟨_, S3, c3, n3, c2_3, n2_3, e3, hf, hC3, hN3⟩ := gbo hf
  refine g_callI (pc := 11) (o := (some S1.2)) (b := S1.2) (As := [.ref l0, .int l1]) (rest := [.ref S1.2]) hc (mJ32_init hk (l0 := S1.2) (l1 := (some l0)) (l2 := l1) e3) (cwI 2 hts (lw_meth q2039) rfl rfl rfl (hts _ q152) (hts _ q2037) (hts _ q2038) rfl jhdiJ32_init ⟨Nat.le_of_ble_eq_true rfl, Nat.le_of_ble_eq_true rfl⟩) rfl rfl hl.1 rfl (lv_room (Nat.le_of_ble_eq_true rfl)) dJ4_listIterator_11 hH hS (by omega) (by omega) (fun H locs hH hS => ?_)
  have hkc : kc + c1 + 1 + c3 + c2_3 ≤ mc := by omega
  have hks : ks + n1 + 5 + n3 + n2_3 ≤ ms := by omega
  exact g_aret (pc := 14) (v := (some S1.2)) hx hb hr (Or.inl ⟨_, rfl⟩) hlk hH hS hkc hks hf dJ4_listIterator_14
theorem mJ4_listIterator {l : Launch} {G : gG} {Rp : gM → gM → Nat → Prop} (hk : rOK Rp) {S S2 : gS} {r2 : Option Nat} {C N : Nat} {l0 : Nat} {l1 : Int32} (hf : fJ4_listIterator G l0 l1 S = some (r2, S2, C, N)) : gMet l yJ4_listIterator cJ4_listIterator 2 (some (.object "java/util/ListIterator")) 3 105 G Rp [.ref l0, .int l1] S (some (va_rf r2)) S2 C N := by
  refine g_start (by decide) (Nat.le_of_ble_eq_true rfl) (fun p e s m args below meth c ls hc hl hH => ?_)
  have hl : lv_has ls 2 [(0, .ref l0), (1, .int l1)] := hl
  exact wJ4_listIterator_b0 hk hc l0 l1 S _ _ ls 0 0 C N (by omega) (by omega) hH va_S.rf (lv_sub hl [0, 1] rfl) hf
end
section
variable {r : Option Nat} {Sf : gS}
def fJ1_listIterator_c16 (G : gG) (l0 : Nat) (S : gS) : gO (Option Nat) :=
  bd (chk S l0 16) fun _ =>
  gb (fJ4_listIterator G l0 (nI 0) S) fun v1 S1 =>
  some (v1, S1, 0, 0)
theorem wJ1_listIterator_c16_b0 (hk : rOK Rp) (hc : gC p s m args meth c G RJ1 "listIterator" cJ1_listIterator 1 (some (.object "java/util/ListIterator"))) (l0 : Nat) (S : gS) (H : Heap) (locs : List Loc) (ls : Array Slot) (kc ks C N : Nat) (hkc : kc + C ≤ mc) (hks : ks + N ≤ ms) (hH : hp G Rp S H) (hS : va_S G.2.2.2 s.heap H locs) (hl : lv_has ls 1 [(0, .ref l0)]) (hf : fJ1_listIterator_c16 G l0 S = some (r, Sf, C, N)) : W p l e (gR 4 126 mc ms) s m args below meth c H locs kc ks (gQ below G Rp (some (va_rf r)) Sf args s mc ms) (F0 m 0 ls []) := by
  obtain ⟨hx, hb, hr, hlk, hml, hown, hts, hE, hA, hnm⟩ := hc
  have hc : gC p s m args meth c G RJ1 "listIterator" cJ1_listIterator 1 (some (.object "java/util/ListIterator")) := ⟨hx, hb, hr, hlk, hml, hown, hts, hE, hA, hnm⟩
  unfold fJ1_listIterator_c16 at hf
  refine lv_aload_n (pc := 0) hx hb dJ1_listIterator_0 rfl (lv_at hl 0 rfl) ?_
  refine lv_iconst (pc := 1) (v := nI 0) hx hb dJ1_listIterator_1 rfl ?_
  obtain ⟨_, ek1, hf⟩ := bdo hf
  obtain ⟨v1, S1, c1, n1, c2_1, n2_1, e1, hf, hC1, hN1⟩ := gbo hf
  refine g_callU (pc := 2) (o := (some l0)) (b := l0) (As := [.int (nI 0)]) (rest := []) (st1 := [va_rf v1]) (x := ⟨"java/util/AbstractList", "listIterator", "(I)Ljava/util/ListIterator;"⟩) (owner := "java/util/AbstractList") (C := "java/util/LinkedList") hc (mJ4_listIterator hk (l0 := l0) (l1 := (nI 0)) e1) (va_cwA 1 hts (lw_app (lw_of5 q2004 q2006 q2024 q2025 q103) (lw_meth q2026)) rfl rfl rfl (hE.2.1.2.2.2.2.1 _ q2058) (by decide +kernel) ⟨Nat.le_of_ble_eq_true rfl, Nat.le_of_ble_eq_true rfl⟩) (g_recv hE hk hH (ci := 16) (q := (RJ4, TJ4, 4)) rfl (chk_o ek1).choose_spec) rfl rfl hl.1 rfl rfl (lv_room (Nat.le_of_ble_eq_true rfl)) dJ1_listIterator_2 hH hS (by omega) (by omega) (fun H locs hH hS => ?_)
  have hkc : kc + c1 + c2_1 ≤ mc := by omega
  have hks : ks + n1 + n2_1 ≤ ms := by omega
  exact g_aret (pc := 5) (v := v1) hx hb hr (Or.inl ⟨_, rfl⟩) hlk hH hS hkc hks hf dJ1_listIterator_5
theorem mJ1_listIterator_c16 {l : Launch} {G : gG} {Rp : gM → gM → Nat → Prop} (hk : rOK Rp) {S S2 : gS} {r2 : Option Nat} {C N : Nat} {l0 : Nat} (hf : fJ1_listIterator_c16 G l0 S = some (r2, S2, C, N)) : gMet l yJ1_listIterator cJ1_listIterator 1 (some (.object "java/util/ListIterator")) 4 126 G Rp [.ref l0] S (some (va_rf r2)) S2 C N := by
  refine g_start (by decide) (Nat.le_of_ble_eq_true rfl) (fun p e s m args below meth c ls hc hl hH => ?_)
  have hl : lv_has ls 1 [(0, .ref l0)] := hl
  exact wJ1_listIterator_c16_b0 hk hc l0 S _ _ ls 0 0 C N (by omega) (by omega) hH va_S.rf (lv_sub hl [0] rfl) hf
end
section
variable {r : Option Nat} {Sf : gS}
def fJ3_iterator_c16 (G : gG) (l0 : Nat) (S : gS) : gO (Option Nat) :=
  bd (chk S l0 16) fun _ =>
  gb (fJ1_listIterator_c16 G l0 S) fun v1 S1 =>
  some (v1, S1, 0, 0)
theorem wJ3_iterator_c16_b0 (hk : rOK Rp) (hc : gC p s m args meth c G RJ3 "iterator" cJ3_iterator 1 (some (.object "java/util/Iterator"))) (l0 : Nat) (S : gS) (H : Heap) (locs : List Loc) (ls : Array Slot) (kc ks C N : Nat) (hkc : kc + C ≤ mc) (hks : ks + N ≤ ms) (hH : hp G Rp S H) (hS : va_S G.2.2.2 s.heap H locs) (hl : lv_has ls 1 [(0, .ref l0)]) (hf : fJ3_iterator_c16 G l0 S = some (r, Sf, C, N)) : W p l e (gR 5 146 mc ms) s m args below meth c H locs kc ks (gQ below G Rp (some (va_rf r)) Sf args s mc ms) (F0 m 0 ls []) := by
  obtain ⟨hx, hb, hr, hlk, hml, hown, hts, hE, hA, hnm⟩ := hc
  have hc : gC p s m args meth c G RJ3 "iterator" cJ3_iterator 1 (some (.object "java/util/Iterator")) := ⟨hx, hb, hr, hlk, hml, hown, hts, hE, hA, hnm⟩
  unfold fJ3_iterator_c16 at hf
  refine lv_aload_n (pc := 0) hx hb dJ3_iterator_0 rfl (lv_at hl 0 rfl) ?_
  obtain ⟨_, ek1, hf⟩ := bdo hf
  obtain ⟨v1, S1, c1, n1, c2_1, n2_1, e1, hf, hC1, hN1⟩ := gbo hf
  refine g_callU (pc := 1) (o := (some l0)) (b := l0) (As := []) (rest := []) (st1 := [va_rf v1]) (x := ⟨"java/util/AbstractSequentialList", "listIterator", "()Ljava/util/ListIterator;"⟩) (owner := "java/util/AbstractList") (C := "java/util/LinkedList") hc (mJ1_listIterator_c16 hk (l0 := l0) e1) (va_cwU 0 hts (lw_app (lw_of5 q1998 q1999 q2001 q2002 q100) (lw_meth q2003)) rfl rfl rfl rfl jhduJ1_listIterator ⟨Nat.le_of_ble_eq_true rfl, Nat.le_of_ble_eq_true rfl⟩) (g_recv hE hk hH (ci := 16) (q := (RJ4, TJ4, 4)) rfl (chk_o ek1).choose_spec) rfl rfl hl.1 rfl rfl (lv_room (Nat.le_of_ble_eq_true rfl)) dJ3_iterator_1 hH hS (by omega) (by omega) (fun H locs hH hS => ?_)
  have hkc : kc + c1 + c2_1 ≤ mc := by omega
  have hks : ks + n1 + n2_1 ≤ ms := by omega
  exact g_aret (pc := 4) (v := v1) hx hb hr (Or.inl ⟨_, rfl⟩) hlk hH hS hkc hks hf dJ3_iterator_4
theorem mJ3_iterator_c16 {l : Launch} {G : gG} {Rp : gM → gM → Nat → Prop} (hk : rOK Rp) {S S2 : gS} {r2 : Option Nat} {C N : Nat} {l0 : Nat} (hf : fJ3_iterator_c16 G l0 S = some (r2, S2, C, N)) : gMet l yJ3_iterator cJ3_iterator 1 (some (.object "java/util/Iterator")) 5 146 G Rp [.ref l0] S (some (va_rf r2)) S2 C N := by
  refine g_start (by decide) (Nat.le_of_ble_eq_true rfl) (fun p e s m args below meth c ls hc hl hH => ?_)
  have hl : lv_has ls 1 [(0, .ref l0)] := hl
  exact wJ3_iterator_c16_b0 hk hc l0 S _ _ ls 0 0 C N (by omega) (by omega) hH va_S.rf (lv_sub hl [0] rfl) hf
end
section
variable {r : Unit} {Sf : gS}
def fJ0_init_c17 (G : gG) (l0 : Nat) (S : gS) : gO Unit :=
  some ((), S, 0, 0)
theorem wJ0_init_c17_b0 (hk : rOK Rp) (hc : gC p s m args meth c G RJ0 "<init>" cJ0_init 1 (none)) (l0 : Nat) (S : gS) (H : Heap) (locs : List Loc) (ls : Array Slot) (kc ks C N : Nat) (hkc : kc + C ≤ mc) (hks : ks + N ≤ ms) (hH : hp G Rp S H) (hS : va_S G.2.2.2 s.heap H locs) (hl : lv_has ls 1 [(0, .ref l0)]) (hf : fJ0_init_c17 G l0 S = some (r, Sf, C, N)) : W p l e (gR 1 60 mc ms) s m args below meth c H locs kc ks (gQ below G Rp none Sf args s mc ms) (F0 m 0 ls []) := by
  obtain ⟨hx, hb, hr, hlk, hml, hown, hts, hE, hA, hnm⟩ := hc
  have hc : gC p s m args meth c G RJ0 "<init>" cJ0_init 1 (none) := ⟨hx, hb, hr, hlk, hml, hown, hts, hE, hA, hnm⟩
  unfold fJ0_init_c17 at hf
  refine lv_aload_n (pc := 0) hx hb dJ0_init_0 rfl (lv_at hl 0 rfl) ?_
  refine W.objInit  hx hb hown (hts _ q188) (hts _ q169) (hts _ q170) rfl (by rw [hml]; exact hl.1) rfl dJ0_init_1 (Nat.le_of_ble_eq_true rfl) (Nat.le_of_ble_eq_true rfl) ?_
  refine W.eq (g2 := F0 m 4 ls []) rfl ?_
  exact g_vret (pc := 4) hx hb hr hlk hH hS hkc hks hf dJ0_init_4
theorem mJ0_init_c17 {l : Launch} {G : gG} {Rp : gM → gM → Nat → Prop} (hk : rOK Rp) {S S2 : gS} {r2 : Unit} {C N : Nat} {l0 : Nat} (hf : fJ0_init_c17 G l0 S = some (r2, S2, C, N)) : gMet l yJ0_init cJ0_init 1 (none) 1 60 G Rp [.ref l0] S none S2 C N := by
  refine g_start (by decide) (Nat.le_of_ble_eq_true rfl) (fun p e s m args below meth c ls hc hl hH => ?_)
  have hl : lv_has ls 1 [(0, .ref l0)] := hl
  exact wJ0_init_c17_b0 hk hc l0 S _ _ ls 0 0 C N (by omega) (by omega) hH va_S.rf (lv_sub hl [0] rfl) hf
end
section
variable {r : Unit} {Sf : gS}
def fJ35_init_c17 (G : gG) (l0 : Nat) (S : gS) : gO Unit :=
  gb (fJ0_init_c17 G l0 S) fun _ S1 =>
  some ((), S1, 0, 0)
theorem wJ35_init_c17_b0 (hk : rOK Rp) (hc : gC p s m args meth c G RJ35 "<init>" cJ35_init 1 (none)) (l0 : Nat) (S : gS) (H : Heap) (locs : List Loc) (ls : Array Slot) (kc ks C N : Nat) (hkc : kc + C ≤ mc) (hks : ks + N ≤ ms) (hH : hp G Rp S H) (hS : va_S G.2.2.2 s.heap H locs) (hl : lv_has ls 1 [(0, .ref l0)]) (hf : fJ35_init_c17 G l0 S = some (r, Sf, C, N)) : W p l e (gR 2 80 mc ms) s m args below meth c H locs kc ks (gQ below G Rp none Sf args s mc ms) (F0 m 0 ls []) := by
  obtain ⟨hx, hb, hr, hlk, hml, hown, hts, hE, hA, hnm⟩ := hc
  have hc : gC p s m args meth c G RJ35 "<init>" cJ35_init 1 (none) := ⟨hx, hb, hr, hlk, hml, hown, hts, hE, hA, hnm⟩
  unfold fJ35_init_c17 at hf
  refine lv_aload_n (pc := 0) hx hb dJ35_init_0 rfl (lv_at hl 0 rfl) ?_
  obtain ⟨_, S1, c1, n1, c2_1, n2_1, e1, hf, hC1, hN1⟩ := gbo hf
  refine g_callI (pc := 1) (o := (some l0)) (b := l0) (As := []) (rest := []) hc (mJ0_init_c17 hk (l0 := l0) e1) (cwI 0 hts (lw_meth q187) rfl rfl rfl (hts _ q99) (hts _ q2450) (hts _ q186) rfl jhdiJ0_init ⟨Nat.le_of_ble_eq_true rfl, Nat.le_of_ble_eq_true rfl⟩) rfl rfl hl.1 rfl (lv_room (Nat.le_of_ble_eq_true rfl)) dJ35_init_1 hH hS (by omega) (by omega) (fun H locs hH hS => ?_)
  have hkc : kc + c1 + c2_1 ≤ mc := by omega
  have hks : ks + n1 + n2_1 ≤ ms := by omega
  exact g_vret (pc := 4) hx hb hr hlk hH hS hkc hks hf dJ35_init_4
theorem mJ35_init_c17 {l : Launch} {G : gG} {Rp : gM → gM → Nat → Prop} (hk : rOK Rp) {S S2 : gS} {r2 : Unit} {C N : Nat} {l0 : Nat} (hf : fJ35_init_c17 G l0 S = some (r2, S2, C, N)) : gMet l yJ35_init cJ35_init 1 (none) 2 80 G Rp [.ref l0] S none S2 C N := by
  refine g_start (by decide) (Nat.le_of_ble_eq_true rfl) (fun p e s m args below meth c ls hc hl hH => ?_)
  have hl : lv_has ls 1 [(0, .ref l0)] := hl
  exact wJ35_init_c17_b0 hk hc l0 S _ _ ls 0 0 C N (by omega) (by omega) hH va_S.rf (lv_sub hl [0] rfl) hf
end
section
variable {r : Unit} {Sf : gS}
def fJ36_init (G : gG) (l0 : Nat) (l1 : Int32) (l2 : Option Nat) (S : gS) : gO Unit :=
  gb (fJ35_init_c17 G l0 S) fun _ S1 =>
  if (nI 1) ≤ l1 then
    nwq S1 5 l1 fun S3 =>
    bd (wr S3 l0 17 0 (.ref S1.2)) fun S4 =>
    bd (wr S4 l0 17 2 (va_rf l2)) fun S5 =>
    some ((), S5, 0, 0)
  else
    none
theorem wJ36_init_b0 (hk : rOK Rp) (hc : gC p s m args meth c G RJ36 "<init>" cJ36_init 3 (none)) (l0 : Nat) (l1 : Int32) (l2 : Option Nat) (S : gS) (H : Heap) (locs : List Loc) (ls : Array Slot) (kc ks C N : Nat) (hkc : kc + C ≤ mc) (hks : ks + N ≤ ms) (hH : hp G Rp S H) (hS : va_S G.2.2.2 s.heap H locs) (hl : lv_has ls 3 [(0, .ref l0), (1, .int l1), (2, va_rf l2)]) (hf : fJ36_init G l0 l1 l2 S = some (r, Sf, C, N)) : W p l e (gR 3 100 mc ms) s m args below meth c H locs kc ks (gQ below G Rp none Sf args s mc ms) (F0 m 0 ls []) := by
  obtain ⟨hx, hb, hr, hlk, hml, hown, hts, hE, hA, hnm⟩ := hc
  have hc : gC p s m args meth c G RJ36 "<init>" cJ36_init 3 (none) := ⟨hx, hb, hr, hlk, hml, hown, hts, hE, hA, hnm⟩
  unfold fJ36_init at hf
  refine lv_aload_n (pc := 0) hx hb dJ36_init_0 rfl (lv_at hl 0 rfl) ?_
  obtain ⟨_, S1, c1, n1, c2_1, n2_1, e1, hf, hC1, hN1⟩ := gbo hf
  refine g_callI (pc := 1) (o := (some l0)) (b := l0) (As := []) (rest := []) hc (mJ35_init_c17 hk (l0 := l0) e1) (cwI 0 hts (lw_meth q2449) rfl rfl rfl (hts _ q155) (hts _ q2447) (hts _ q2448) rfl jhdiJ35_init ⟨Nat.le_of_ble_eq_true rfl, Nat.le_of_ble_eq_true rfl⟩) rfl rfl hl.1 rfl (lv_room (Nat.le_of_ble_eq_true rfl)) dJ36_init_1 hH hS (by omega) (by omega) (fun H locs hH hS => ?_)
  have hkc : kc + c1 + c2_1 ≤ mc := by omega
  have hks : ks + n1 + n2_1 ≤ ms := by omega
  refine lv_iload_n (pc := 4) hx hb dJ36_init_4 rfl (lv_at hl 1 rfl) ?_
  refine lv_iconst (pc := 5) (v := nI 1) hx hb dJ36_init_5 rfl ?_
  refine lv_icmp_ge (pc := 6) (tgt := 17) hx hb dJ36_init_6 (by decide) (fun c2 => ?_) (fun c2 => ?_)
  · rw [if_pos c2] at hf
    refine lv_aload_n (pc := 17) hx hb dJ36_init_17 rfl (lv_at hl 0 rfl) ?_
    refine lv_iload_n (pc := 18) hx hb dJ36_init_18 rfl (lv_at hl 1 rfl) ?_
    obtain ⟨hn3, hi3, S3, c2_3, n2_3, eS3, hf, hC3, hN3⟩ := nwqo hf
    refine g_newqo (pc := 19) (C := "java/lang/Object") (t := 5) (t0 := 5) hx hb hts hown hE hA hk hH hS q2451 q1109 rfl hn3 hi3 eS3 (Nat.le_trans (by omega) hkc) (Nat.le_trans (by omega) hks) dJ36_init_19 (fun H hH hS => ?_)
    have hkc : kc + c1 + 1 + c2_3 ≤ mc := by omega
    have hks : ks + n1 + l1.toNatClampNeg + n2_3 ≤ ms := by omega
    obtain ⟨S4, e4, hf⟩ := bdo hf
    refine g_put (pc := 22) (o := (some l0)) (a := l0) (ci := 17) (k := 0) (v := .ref S1.2) (C := RJ36) (T := TJ36) (N := 4) (ty := tyJ36 0) hx hb hts hown hE hk hH hS rfl in_J36 tyJ36_ok nmJ36 rfl (by decide) (hts _ q2453) (fun _ h9 => h9) rfl rfl rfl rfl rfl e4 dJ36_init_22 (fun H locs hH hS => ?_)
    refine lv_aload_n (pc := 25) hx hb dJ36_init_25 rfl (lv_at hl 0 rfl) ?_
    refine g_aload_n (pc := 26) (o := l2) hx hb dJ36_init_26 rfl (lv_at hl 2 rfl) ?_
    obtain ⟨S5, e5, hf⟩ := bdo hf
    refine g_putF (pc := 27) (o := (some l0)) (a := l0) (ci := 17) (k := 2) (v := va_rf l2) (C := RJ36) (T := TJ36) (N := 4) (ty := .object "java/util/Comparator") hx hb hts hown hE hk hH hS rfl in_J36 tyJ36_ok nmJ36 rfl (by decide) (hts _ q2456) (fun _ h9 => h9) rfl hnm rfl rfl (nar_rf _ _) (fit_rf _ _) rfl e5 dJ36_init_27 (fun H locs hH hS => ?_)
    exact g_vret (pc := 30) hx hb hr hlk hH hS hkc hks hf dJ36_init_30
  · rw [if_neg c2] at hf
    exact absurd hf (fun h => by cases h)
theorem mJ36_init {l : Launch} {G : gG} {Rp : gM → gM → Nat → Prop} (hk : rOK Rp) {S S2 : gS} {r2 : Unit} {C N : Nat} {l0 : Nat} {l1 : Int32} {l2 : Option Nat} (hf : fJ36_init G l0 l1 l2 S = some (r2, S2, C, N)) : gMet l yJ36_init cJ36_init 3 (none) 3 100 G Rp [.ref l0, .int l1, va_rf l2] S none S2 C N := by
  refine g_start (by decide) (by simp [lg_sl, va_rf_cat, cat_i, cat_j, cat_r]) (fun p e s m args below meth c ls hc hl hH => ?_)
  have hl : lv_has ls 3 [(0, .ref l0), (1, .int l1), (2, va_rf l2)] := by simpa [lv_args, va_rf_cat, cat_i, cat_j, cat_r] using hl
  exact wJ36_init_b0 hk hc l0 l1 l2 S _ _ ls 0 0 C N (by omega) (by omega) hH va_S.rf (lv_sub hl [0, 1, 2] rfl) hf
end
section
variable {r : Int32} {Sf : gS}
def fX9_comparep (G : gG) (l1 : Option Nat) (l2 : Option Nat) (S : gS) : gO Int32 :=
  bd l1 fun a1 =>
  bd (rdR S a1 4 0) fun v2 =>
  bd l2 fun a3 =>
  bd (rdR S a3 4 0) fun v4 =>
  bd v2 fun a5 =>
  bd (rdI S a5 5 2) fun v6 =>
  bd v4 fun a7 =>
  bd (rdI S a7 5 2) fun v8 =>
  if v6 = v8 then
    bd (rdI S a5 5 0) fun v10 =>
    bd (rdI S a7 5 0) fun v11 =>
    some (v10 - v11, S, 0, 0)
  else
    bd (rdI S a7 5 2) fun v12 =>
    bd (rdI S a5 5 2) fun v13 =>
    some (v12 - v13, S, 0, 0)
theorem wX9_comparep_b0 (hk : rOK Rp) (hc : gC p s m args meth c G RX9 "compare" cX9_compare 5 (some .int)) (l1 : Option Nat) (l2 : Option Nat) (S : gS) (H : Heap) (locs : List Loc) (ls : Array Slot) (kc ks C N : Nat) (hkc : kc + C ≤ mc) (hks : ks + N ≤ ms) (hH : hp G Rp S H) (hS : va_S G.2.2.2 s.heap H locs) (hl : lv_has ls 5 [(1, va_rf l1), (2, va_rf l2)]) (hf : fX9_comparep G l1 l2 S = some (r, Sf, C, N)) : W p l e (gR 1 60 mc ms) s m args below meth c H locs kc ks (gQ below G Rp (some (.int r)) Sf args s mc ms) (F0 m 0 ls []) := by
  obtain ⟨hx, hb, hr, hlk, hml, hown, hts, hE, hA, hnm⟩ := hc
  have hc : gC p s m args meth c G RX9 "compare" cX9_compare 5 (some .int) := ⟨hx, hb, hr, hlk, hml, hown, hts, hE, hA, hnm⟩
  unfold fX9_comparep at hf
  refine g_aload_n (pc := 0) (o := l1) hx hb dX9_compare_0 rfl (lv_at hl 0 rfl) ?_
  obtain ⟨a1, ea1, hf⟩ := bdo hf
  obtain ⟨v2, e2, hf⟩ := bdo hf
  refine g_get (pc := 1) (o := l1) (a := a1) (ci := 4) (k := 0) (v := va_rf v2) (C := RX16) (T := TX16) (N := 6) hx hb hts hown hE hk hH in_X16 rfl (by decide) (hts _ q1709) (fun _ h9 => h9) ea1 (rdR_o e2) dX9_compare_1 ?_
  refine g_astore_n (pc := 4) (i := 3) (o := v2) (lv' := [(3, va_rf v2), (1, va_rf l1), (2, va_rf l2)]) hx hb dX9_compare_4 rfl hl (by decide) (by simp [va_rf_cat, cat_i, cat_j, cat_r] <;> rfl) (fun ls hl => ?_)
  refine g_aload_n (pc := 5) (o := l2) hx hb dX9_compare_5 rfl (lv_at hl 2 rfl) ?_
  obtain ⟨a3, ea3, hf⟩ := bdo hf
  obtain ⟨v4, e4, hf⟩ := bdo hf
  refine g_get (pc := 6) (o := l2) (a := a3) (ci := 4) (k := 0) (v := va_rf v4) (C := RX16) (T := TX16) (N := 6) hx hb hts hown hE hk hH in_X16 rfl (by decide) (hts _ q1709) (fun _ h9 => h9) ea3 (rdR_o e4) dX9_compare_6 ?_
  refine g_astore (pc := 9) (i := 4) (o := v4) (lv' := [(4, va_rf v4), (3, va_rf v2), (1, va_rf l1), (2, va_rf l2)]) hx hb dX9_compare_9 hl (by decide) (by simp [va_rf_cat, cat_i, cat_j, cat_r] <;> rfl) (fun ls hl => ?_)
  refine g_aload_n (pc := 11) (o := v2) hx hb dX9_compare_11 rfl (lv_at hl 1 rfl) ?_
  obtain ⟨a5, ea5, hf⟩ := bdo hf
  obtain ⟨v6, e6, hf⟩ := bdo hf
  refine g_get (pc := 12) (o := v2) (a := a5) (ci := 5) (k := 2) (v := .int v6) (C := RX11) (T := TX11) (N := 6) hx hb hts hown hE hk hH in_X11 rfl (by decide) (hts _ q1554) (fun _ h9 => h9) ea5 (rdI_o e6) dX9_compare_12 ?_
  refine g_aload (pc := 15) (o := v4) hx hb dX9_compare_15 (lv_at hl 0 rfl) ?_
  obtain ⟨a7, ea7, hf⟩ := bdo hf
  obtain ⟨v8, e8, hf⟩ := bdo hf
  refine g_get (pc := 17) (o := v4) (a := a7) (ci := 5) (k := 2) (v := .int v8) (C := RX11) (T := TX11) (N := 6) hx hb hts hown hE hk hH in_X11 rfl (by decide) (hts _ q1554) (fun _ h9 => h9) ea7 (rdI_o e8) dX9_compare_17 ?_
  refine lv_icmp_eq (pc := 20) (tgt := 36) hx hb dX9_compare_20 (by decide) (fun c9 => ?_) (fun c9 => ?_)
  · rw [if_pos c9] at hf
    refine g_aload_n (pc := 36) (o := v2) hx hb dX9_compare_36 rfl (lv_at hl 1 rfl) ?_
    obtain ⟨v10, e10, hf⟩ := bdo hf
    refine g_get (pc := 37) (o := v2) (a := a5) (ci := 5) (k := 0) (v := .int v10) (C := RX11) (T := TX11) (N := 6) hx hb hts hown hE hk hH in_X11 rfl (by decide) (hts _ q1546) (fun _ h9 => h9) ea5 (rdI_o e10) dX9_compare_37 ?_
    refine g_aload (pc := 40) (o := v4) hx hb dX9_compare_40 (lv_at hl 0 rfl) ?_
    obtain ⟨v11, e11, hf⟩ := bdo hf
    refine g_get (pc := 42) (o := v4) (a := a7) (ci := 5) (k := 0) (v := .int v11) (C := RX11) (T := TX11) (N := 6) hx hb hts hown hE hk hH in_X11 rfl (by decide) (hts _ q1546) (fun _ h9 => h9) ea7 (rdI_o e11) dX9_compare_42 ?_
    refine lv_isub (pc := 45) hx hb dX9_compare_45 ?_
    exact g_iret (pc := 46) hx hb hr hlk hH hS hkc hks hf dX9_compare_46
  · rw [if_neg c9] at hf
    refine g_aload (pc := 23) (o := v4) hx hb dX9_compare_23 (lv_at hl 0 rfl) ?_
    obtain ⟨v12, e12, hf⟩ := bdo hf
    refine g_get (pc := 25) (o := v4) (a := a7) (ci := 5) (k := 2) (v := .int v12) (C := RX11) (T := TX11) (N := 6) hx hb hts hown hE hk hH in_X11 rfl (by decide) (hts _ q1554) (fun _ h9 => h9) ea7 (rdI_o e12) dX9_compare_25 ?_
    refine g_aload_n (pc := 28) (o := v2) hx hb dX9_compare_28 rfl (lv_at hl 1 rfl) ?_
    obtain ⟨v13, e13, hf⟩ := bdo hf
    refine g_get (pc := 29) (o := v2) (a := a5) (ci := 5) (k := 2) (v := .int v13) (C := RX11) (T := TX11) (N := 6) hx hb hts hown hE hk hH in_X11 rfl (by decide) (hts _ q1554) (fun _ h9 => h9) ea5 (rdI_o e13) dX9_compare_29 ?_
    refine lv_isub (pc := 32) hx hb dX9_compare_32 ?_
    refine lv_goto (pc := 33) (tgt := 46) hx hb dX9_compare_33 (by decide) ?_
    exact g_iret (pc := 46) hx hb hr hlk hH hS hkc hks hf dX9_compare_46
theorem mX9_comparep {l : Launch} {G : gG} {Rp : gM → gM → Nat → Prop} (hk : rOK Rp) {S S2 : gS} {r2 : Int32} {C N : Nat} {l0 : Nat} {l1 : Option Nat} {l2 : Option Nat} (hf : fX9_comparep G l1 l2 S = some (r2, S2, C, N)) : gMet l yX9_compare cX9_compare 5 (some .int) 1 60 G Rp [.ref l0, va_rf l1, va_rf l2] S (some (.int r2)) S2 C N := by
  refine g_start (by decide) (by simp [lg_sl, va_rf_cat, cat_i, cat_j, cat_r]) (fun p e s m args below meth c ls hc hl hH => ?_)
  have hl : lv_has ls 5 [(0, .ref l0), (1, va_rf l1), (2, va_rf l2)] := by simpa [lv_args, va_rf_cat, cat_i, cat_j, cat_r] using hl
  exact wX9_comparep_b0 hk hc l1 l2 S _ _ ls 0 0 C N (by omega) (by omega) hH va_S.rf (lv_sub hl [1, 2] rfl) hf
end
section
variable {r : Int32} {Sf : gS}
def fX9_compare_2p (G : gG) (l0 : Nat) (l1 : Option Nat) (l2 : Option Nat) (S : gS) : gO Int32 :=
  bd (ckc S l1 4) fun _ =>
  bd (ckc S l2 4) fun _ =>
  bd (chk S l0 10) fun _ =>
  gb (fX9_comparep G l1 l2 S) fun v3 S3 =>
  some (v3, S3, 0, 0)
theorem wX9_compare_2p_b0 (hk : rOK Rp) (hc : gC p s m args meth c G RX9 "compare" cX9_compare_2 3 (some .int)) (l0 : Nat) (l1 : Option Nat) (l2 : Option Nat) (S : gS) (H : Heap) (locs : List Loc) (ls : Array Slot) (kc ks C N : Nat) (hkc : kc + C ≤ mc) (hks : ks + N ≤ ms) (hH : hp G Rp S H) (hS : va_S G.2.2.2 s.heap H locs) (hl : lv_has ls 3 [(0, .ref l0), (1, va_rf l1), (2, va_rf l2)]) (hf : fX9_compare_2p G l0 l1 l2 S = some (r, Sf, C, N)) : W p l e (gR 2 84 mc ms) s m args below meth c H locs kc ks (gQ below G Rp (some (.int r)) Sf args s mc ms) (F0 m 0 ls []) := by
  obtain ⟨hx, hb, hr, hlk, hml, hown, hts, hE, hA, hnm⟩ := hc
  have hc : gC p s m args meth c G RX9 "compare" cX9_compare_2 3 (some .int) := ⟨hx, hb, hr, hlk, hml, hown, hts, hE, hA, hnm⟩
  unfold fX9_compare_2p at hf
  refine lv_aload_n (pc := 0) hx hb dX9_compare_2_0 rfl (lv_at hl 0 rfl) ?_
  refine g_aload_n (pc := 1) (o := l1) hx hb dX9_compare_2_1 rfl (lv_at hl 1 rfl) ?_
  obtain ⟨_, e1, hf⟩ := bdo hf
  refine g_cast (pc := 2) (o := l1) (ci := 4) (C := RX16) (T := TX16) (N := 6) hx hb hts hown hE hk hH rfl q2172 e1 dX9_compare_2_2 ?_
  refine g_aload_n (pc := 5) (o := l2) hx hb dX9_compare_2_5 rfl (lv_at hl 2 rfl) ?_
  obtain ⟨_, e2, hf⟩ := bdo hf
  refine g_cast (pc := 6) (o := l2) (ci := 4) (C := RX16) (T := TX16) (N := 6) hx hb hts hown hE hk hH rfl q2172 e2 dX9_compare_2_6 ?_
  obtain ⟨_, ek3, hf⟩ := bdo hf
  obtain ⟨v3, S3, c3, n3, c2_3, n2_3, e3, hf, hC3, hN3⟩ := gbo hf
  refine g_callV (pc := 9) (o := (some l0)) (b := l0) (As := [va_rf l1, va_rf l2]) (rest := []) (st1 := [.int v3]) hc (mX9_comparep hk (l0 := l0) (l1 := l1) (l2 := l2) e3) (cwV 2 hts (lw_V q2173 q1760 q1761 q132 q1762) rfl rfl rfl jhdX9_compare ⟨Nat.le_of_ble_eq_true rfl, Nat.le_of_ble_eq_true rfl⟩) (g_recv hE hk hH (ci := 10) (q := (RX9, noT, 0)) rfl (chk_o ek3).choose_spec) rfl rfl hl.1 rfl rfl (lv_room (Nat.le_of_ble_eq_true rfl)) dX9_compare_2_9 hH hS (by omega) (by omega) (fun H locs hH hS => ?_)
  have hkc : kc + c3 + c2_3 ≤ mc := by omega
  have hks : ks + n3 + n2_3 ≤ ms := by omega
  exact g_iret (pc := 12) hx hb hr hlk hH hS hkc hks hf dX9_compare_2_12
theorem mX9_compare_2p {l : Launch} {G : gG} {Rp : gM → gM → Nat → Prop} (hk : rOK Rp) {S S2 : gS} {r2 : Int32} {C N : Nat} {l0 : Nat} {l1 : Option Nat} {l2 : Option Nat} (hf : fX9_compare_2p G l0 l1 l2 S = some (r2, S2, C, N)) : gMet l yX9_compare_2 cX9_compare_2 3 (some .int) 2 84 G Rp [.ref l0, va_rf l1, va_rf l2] S (some (.int r2)) S2 C N := by
  refine g_start (by decide) (by simp [lg_sl, va_rf_cat, cat_i, cat_j, cat_r]) (fun p e s m args below meth c ls hc hl hH => ?_)
  have hl : lv_has ls 3 [(0, .ref l0), (1, va_rf l1), (2, va_rf l2)] := by simpa [lv_args, va_rf_cat, cat_i, cat_j, cat_r] using hl
  exact wX9_compare_2p_b0 hk hc l0 l1 l2 S _ _ ls 0 0 C N (by omega) (by omega) hH va_S.rf (lv_sub hl [0, 1, 2] rfl) hf
end
section
variable {r : Unit} {Sf : gS}
def fJ36_siftUpUsingComparator (G : gG) : Nat → Int32 → (Option Nat) → (Option Nat) → (Option Nat) → gS → gO Unit
  | 0, _, _, _, _, _ => none
  | n + 1, l0, l1, l2, l3, S =>
    if l0 ≤ 0 then
      bd l2 fun a2 =>
      bd l1 fun a4 =>
      bd (chkA G S a4) fun _ =>
      bd (wrAq S a2 5 l0 (some a4)) fun S3 =>
      some ((), S3, 0, 0)
    else
      bd l2 fun a6 =>
      bd (rdAq S a6 5 (((l0 - (nI 1)).toUInt32 >>> ((nI 1).toUInt32 &&& Int32.toUInt32 31)).toInt32)) fun v7 =>
      bd l3 fun a9 =>
      bd (chk S a9 10) fun _ =>
      gb (fX9_compare_2p G a9 l1 v7 S) fun v8 S8 =>
      if v8 < 0 then
        bd v7 fun a12 =>
        bd (chkA G S8 a12) fun _ =>
        bd (wrAq S8 a6 5 l0 (some a12)) fun S11 =>
        fJ36_siftUpUsingComparator G n (((l0 - (nI 1)).toUInt32 >>> ((nI 1).toUInt32 &&& Int32.toUInt32 31)).toInt32) l1 l2 l3 S11
      else
        bd l1 fun a15 =>
        bd (chkA G S8 a15) fun _ =>
        bd (wrAq S8 a6 5 l0 (some a15)) fun S14 =>
        some ((), S14, 0, 0)
theorem wJ36_siftUpUsingComparator_b0 (hk : rOK Rp) (hc : gC p s m args meth c G RJ36 "siftUpUsingComparator" cJ36_siftUpUsingComparator 6 (none)) : ∀ (n : Nat) (l0 : Int32) (l1 : Option Nat) (l2 : Option Nat) (l3 : Option Nat) (S : gS) (H : Heap) (locs : List Loc) (ls : Array Slot) (kc ks C N : Nat), kc + C ≤ mc → ks + N ≤ ms → hp G Rp S H → va_S G.2.2.2 s.heap H locs → lv_has ls 6 [(0, .int l0), (1, va_rf l1), (2, va_rf l2), (3, va_rf l3)] → fJ36_siftUpUsingComparator G n l0 l1 l2 l3 S = some (r, Sf, C, N) → W p l e (gR 3 106 mc ms) s m args below meth c H locs kc ks (gQ below G Rp none Sf args s mc ms) (F0 m 0 ls []) := by
  obtain ⟨hx, hb, hr, hlk, hml, hown, hts, hE, hA, hnm⟩ := hc
  have hc : gC p s m args meth c G RJ36 "siftUpUsingComparator" cJ36_siftUpUsingComparator 6 (none) := ⟨hx, hb, hr, hlk, hml, hown, hts, hE, hA, hnm⟩
  intro n
  induction n with
  | zero => intro l0 l1 l2 l3 S H locs ls kc ks C N _ _ _ _ _ hf; exact absurd hf (fun h => by cases h)
  | succ n ih =>
    intro l0 l1 l2 l3 S H locs ls kc ks C N hkc hks hH hS hl hf
    rw [fJ36_siftUpUsingComparator] at hf
    refine lv_iload_n (pc := 0) hx hb dJ36_siftUpUsingComparator_0 rfl (lv_at hl 0 rfl) ?_
    refine lv_if_le (pc := 1) (tgt := 43) hx hb dJ36_siftUpUsingComparator_1 (by decide) (fun c1 => ?_) (fun c1 => ?_)
    · rw [if_pos c1] at hf
      refine g_aload_n (pc := 43) (o := l2) hx hb dJ36_siftUpUsingComparator_43 rfl (lv_at hl 2 rfl) ?_
      refine lv_iload_n (pc := 44) hx hb dJ36_siftUpUsingComparator_44 rfl (lv_at hl 0 rfl) ?_
      refine g_aload_n (pc := 45) (o := l1) hx hb dJ36_siftUpUsingComparator_45 rfl (lv_at hl 1 rfl) ?_
      obtain ⟨a2, ea2, hf⟩ := bdo hf
      obtain ⟨a4, ea4, hf⟩ := bdo hf
      obtain ⟨_, e5, hf⟩ := bdo hf
      obtain ⟨S3, e3, hf⟩ := bdo hf
      refine g_aastM (pc := 46) (o := l2) (a := a2) (vo := l1) (v := a4) hx hb hE hk hH hS ea2 ea4 (chkA_o e5) e3 dJ36_siftUpUsingComparator_46 (fun H locs hH hS => ?_)
      exact g_vret (pc := 47) hx hb hr hlk hH hS hkc hks hf dJ36_siftUpUsingComparator_47
    · rw [if_neg c1] at hf
      refine lv_iload_n (pc := 4) hx hb dJ36_siftUpUsingComparator_4 rfl (lv_at hl 0 rfl) ?_
      refine lv_iconst (pc := 5) (v := nI 1) hx hb dJ36_siftUpUsingComparator_5 rfl ?_
      refine lv_isub (pc := 6) hx hb dJ36_siftUpUsingComparator_6 ?_
      refine lv_iconst (pc := 7) (v := nI 1) hx hb dJ36_siftUpUsingComparator_7 rfl ?_
      refine lv_iushr (pc := 8) hx hb dJ36_siftUpUsingComparator_8 rfl ?_
      refine lv_istore (pc := 9) (i := 4) (lv' := [(4, .int (((l0 - (nI 1)).toUInt32 >>> ((nI 1).toUInt32 &&& Int32.toUInt32 31)).toInt32)), (0, .int l0), (1, va_rf l1), (2, va_rf l2), (3, va_rf l3)]) hx hb dJ36_siftUpUsingComparator_9 hl (by decide) (by simp [va_rf_cat, cat_i, cat_j, cat_r] <;> rfl) (fun ls hl => ?_)
      refine g_aload_n (pc := 11) (o := l2) hx hb dJ36_siftUpUsingComparator_11 rfl (lv_at hl 3 rfl) ?_
      refine lv_iload (pc := 12) hx hb dJ36_siftUpUsingComparator_12 (lv_at hl 0 rfl) ?_
      obtain ⟨a6, ea6, hf⟩ := bdo hf
      obtain ⟨v7, e7, hf⟩ := bdo hf
      refine g_aald (pc := 14) (o := l2) (a := a6) (t := 5) (t0 := 5) hx hb hE hk hH rfl ea6 e7 dJ36_siftUpUsingComparator_14 ?_
      refine g_astore (pc := 15) (i := 5) (o := v7) (lv' := [(5, va_rf v7), (4, .int (((l0 - (nI 1)).toUInt32 >>> ((nI 1).toUInt32 &&& Int32.toUInt32 31)).toInt32)), (0, .int l0), (1, va_rf l1), (2, va_rf l2), (3, va_rf l3)]) hx hb dJ36_siftUpUsingComparator_15 hl (by decide) rfl (fun ls hl => ?_)
      refine g_aload_n (pc := 17) (o := l3) hx hb dJ36_siftUpUsingComparator_17 rfl (lv_at hl 5 rfl) ?_
      refine g_aload_n (pc := 18) (o := l1) hx hb dJ36_siftUpUsingComparator_18 rfl (lv_at hl 3 rfl) ?_
      refine g_aload (pc := 19) (o := v7) hx hb dJ36_siftUpUsingComparator_19 (lv_at hl 0 rfl) ?_
      obtain ⟨a9, ea9, hf⟩ := bdo hf
      obtain ⟨_, ek8, hf⟩ := bdo hf
      obtain ⟨v8, S8, c8, n8, c2_8, n2_8, e8, hf, hC8, hN8⟩ := gbo hf
      refine g_callF (pc := 21) (o := l3) (b := a9) (As := [va_rf l1, va_rf v7]) (rest := []) (st1 := [.int v8]) (ci := 10) (q := (RX9, noT, 0)) hc (mX9_compare_2p hk (l0 := a9) (l1 := l1) (l2 := v7) e8) (va_cwF 2 hts (lw_app (lw_of4 q2163 q2167 q2169 q132) (lw_meth q2171)) rfl rfl rfl (hE.2.1.2.2.2.2.2 _ _ _ jhdx_compare.1 q2165 q2164 q2170 q2168 q2166) jhdx_compare.2 ⟨Nat.le_of_ble_eq_true rfl, Nat.le_of_ble_eq_true rfl⟩) rfl rfl (g_recv hE hk hH (ci := 10) (q := (RX9, noT, 0)) rfl (chk_o ek8).choose_spec) ea9 rfl hl.1 rfl rfl (lv_room (Nat.le_of_ble_eq_true rfl)) dJ36_siftUpUsingComparator_21 hH hS (by omega) (by omega) (fun H locs hH hS => ?_)
      have hkc : kc + c8 + c2_8 ≤ mc := by omega
      have hks : ks + n8 + n2_8 ≤ ms := by omega
      refine lv_if_lt (pc := 26) (tgt := 32) hx hb dJ36_siftUpUsingComparator_26 (by decide) (fun c10 => ?_) (fun c10 => ?_)
      · rw [if_pos c10] at hf
        refine g_aload_n (pc := 32) (o := l2) hx hb dJ36_siftUpUsingComparator_32 rfl (lv_at hl 4 rfl) ?_
        refine lv_iload_n (pc := 33) hx hb dJ36_siftUpUsingComparator_33 rfl (lv_at hl 2 rfl) ?_
        refine g_aload (pc := 34) (o := v7) hx hb dJ36_siftUpUsingComparator_34 (lv_at hl 0 rfl) ?_
        obtain ⟨a12, ea12, hf⟩ := bdo hf
        obtain ⟨_, e13, hf⟩ := bdo hf
        obtain ⟨S11, e11, hf⟩ := bdo hf
        refine g_aastM (pc := 36) (o := l2) (a := a6) (vo := v7) (v := a12) hx hb hE hk hH hS ea6 ea12 (chkA_o e13) e11 dJ36_siftUpUsingComparator_36 (fun H locs hH hS => ?_)
        refine lv_iload (pc := 37) hx hb dJ36_siftUpUsingComparator_37 (lv_at hl 1 rfl) ?_
        refine lv_istore_n (pc := 39) (i := 0) (lv' := [(0, .int (((l0 - (nI 1)).toUInt32 >>> ((nI 1).toUInt32 &&& Int32.toUInt32 31)).toInt32)), (5, va_rf v7), (4, .int (((l0 - (nI 1)).toUInt32 >>> ((nI 1).toUInt32 &&& Int32.toUInt32 31)).toInt32)), (1, va_rf l1), (2, va_rf l2), (3, va_rf l3)]) hx hb dJ36_siftUpUsingComparator_39 rfl hl (by decide) rfl (fun ls hl => ?_)
        refine lv_goto (pc := 40) (tgt := 0) hx hb dJ36_siftUpUsingComparator_40 (by decide) ?_
        exact ih (((l0 - (nI 1)).toUInt32 >>> ((nI 1).toUInt32 &&& Int32.toUInt32 31)).toInt32) l1 l2 l3 S11 _ _ ls _ _ _ _ hkc hks hH hS (lv_sub hl [0, 3, 4, 5] rfl) hf
      · rw [if_neg c10] at hf
        refine lv_goto (pc := 29) (tgt := 43) hx hb dJ36_siftUpUsingComparator_29 (by decide) ?_
        refine g_aload_n (pc := 43) (o := l2) hx hb dJ36_siftUpUsingComparator_43 rfl (lv_at hl 4 rfl) ?_
        refine lv_iload_n (pc := 44) hx hb dJ36_siftUpUsingComparator_44 rfl (lv_at hl 2 rfl) ?_
        refine g_aload_n (pc := 45) (o := l1) hx hb dJ36_siftUpUsingComparator_45 rfl (lv_at hl 3 rfl) ?_
        obtain ⟨a15, ea15, hf⟩ := bdo hf
        obtain ⟨_, e16, hf⟩ := bdo hf
        obtain ⟨S14, e14, hf⟩ := bdo hf
        refine g_aastM (pc := 46) (o := l2) (a := a6) (vo := l1) (v := a15) hx hb hE hk hH hS ea6 ea15 (chkA_o e16) e14 dJ36_siftUpUsingComparator_46 (fun H locs hH hS => ?_)
        exact g_vret (pc := 47) hx hb hr hlk hH hS hkc hks hf dJ36_siftUpUsingComparator_47
theorem mJ36_siftUpUsingComparator {l : Launch} {G : gG} {Rp : gM → gM → Nat → Prop} (hk : rOK Rp) {S S2 : gS} {r2 : Unit} {C N : Nat} {l0 : Int32} {l1 : Option Nat} {l2 : Option Nat} {l3 : Option Nat} (hf : fJ36_siftUpUsingComparator G FU l0 l1 l2 l3 S = some (r2, S2, C, N)) : gMet l yJ36_siftUpUsingComparator cJ36_siftUpUsingComparator 6 (none) 3 106 G Rp [.int l0, va_rf l1, va_rf l2, va_rf l3] S none S2 C N := by
  refine g_start (by decide) (by simp [lg_sl, va_rf_cat, cat_i, cat_j, cat_r]) (fun p e s m args below meth c ls hc hl hH => ?_)
  have hl : lv_has ls 6 [(0, .int l0), (1, va_rf l1), (2, va_rf l2), (3, va_rf l3)] := by simpa [lv_args, va_rf_cat, cat_i, cat_j, cat_r] using hl
  exact wJ36_siftUpUsingComparator_b0 hk hc FU l0 l1 l2 l3 S _ _ ls 0 0 C N (by omega) (by omega) hH va_S.rf (lv_sub hl [0, 1, 2, 3] rfl) hf
end
section
variable {r : Unit} {Sf : gS}
def fJ36_siftUp (G : gG) (l0 : Nat) (l1 : Int32) (l2 : Option Nat) (S : gS) : gO Unit :=
  bd (rdR S l0 17 2) fun v1 =>
  if v1 = none then
    bd (rdR S l0 17 0) fun v3 =>
    none
  else
    bd (rdR S l0 17 0) fun v4 =>
    bd (rdR S l0 17 2) fun v5 =>
    gb (fJ36_siftUpUsingComparator G FU l1 l2 v4 v5 S) fun _ S6 =>
    some ((), S6, 0, 0)
theorem wJ36_siftUp_b0 (hk : rOK Rp) (hc : gC p s m args meth c G RJ36 "siftUp" cJ36_siftUp 3 (none)) (l0 : Nat) (l1 : Int32) (l2 : Option Nat) (S : gS) (H : Heap) (locs : List Loc) (ls : Array Slot) (kc ks C N : Nat) (hkc : kc + C ≤ mc) (hks : ks + N ≤ ms) (hH : hp G Rp S H) (hS : va_S G.2.2.2 s.heap H locs) (hl : lv_has ls 3 [(0, .ref l0), (1, .int l1), (2, va_rf l2)]) (hf : fJ36_siftUp G l0 l1 l2 S = some (r, Sf, C, N)) : W p l e (gR 4 131 mc ms) s m args below meth c H locs kc ks (gQ below G Rp none Sf args s mc ms) (F0 m 0 ls []) := by
  obtain ⟨hx, hb, hr, hlk, hml, hown, hts, hE, hA, hnm⟩ := hc
  have hc : gC p s m args meth c G RJ36 "siftUp" cJ36_siftUp 3 (none) := ⟨hx, hb, hr, hlk, hml, hown, hts, hE, hA, hnm⟩
  unfold fJ36_siftUp at hf
  refine lv_aload_n (pc := 0) hx hb dJ36_siftUp_0 rfl (lv_at hl 0 rfl) ?_
  obtain ⟨v1, e1, hf⟩ := bdo hf
  refine g_get (pc := 1) (o := (some l0)) (a := l0) (ci := 17) (k := 2) (v := va_rf v1) (C := RJ36) (T := TJ36) (N := 4) hx hb hts hown hE hk hH in_J36 rfl (by decide) (hts _ q2456) (fun _ h9 => h9) rfl (rdR_o e1) dJ36_siftUp_1 ?_
  refine g_ifnull (pc := 4) (o := v1) (tgt := 23) hx hb dJ36_siftUp_4 (by decide) (fun c2 => ?_) (fun c2 => ?_)
  · rw [if_pos c2] at hf
    refine lv_iload_n (pc := 23) hx hb dJ36_siftUp_23 rfl (lv_at hl 1 rfl) ?_
    refine g_aload_n (pc := 24) (o := l2) hx hb dJ36_siftUp_24 rfl (lv_at hl 2 rfl) ?_
    refine lv_aload_n (pc := 25) hx hb dJ36_siftUp_25 rfl (lv_at hl 0 rfl) ?_
    obtain ⟨v3, e3, hf⟩ := bdo hf
    refine g_get (pc := 26) (o := (some l0)) (a := l0) (ci := 17) (k := 0) (v := va_rf v3) (C := RJ36) (T := TJ36) (N := 4) hx hb hts hown hE hk hH in_J36 rfl (by decide) (hts _ q2453) (fun _ h9 => h9) rfl (rdR_o e3) dJ36_siftUp_26 ?_
    exact absurd hf (fun h => by cases h)
  · rw [if_neg c2] at hf
    refine lv_iload_n (pc := 7) hx hb dJ36_siftUp_7 rfl (lv_at hl 1 rfl) ?_
    refine g_aload_n (pc := 8) (o := l2) hx hb dJ36_siftUp_8 rfl (lv_at hl 2 rfl) ?_
    refine lv_aload_n (pc := 9) hx hb dJ36_siftUp_9 rfl (lv_at hl 0 rfl) ?_
    obtain ⟨v4, e4, hf⟩ := bdo hf
    refine g_get (pc := 10) (o := (some l0)) (a := l0) (ci := 17) (k := 0) (v := va_rf v4) (C := RJ36) (T := TJ36) (N := 4) hx hb hts hown hE hk hH in_J36 rfl (by decide) (hts _ q2453) (fun _ h9 => h9) rfl (rdR_o e4) dJ36_siftUp_10 ?_
    refine lv_aload_n (pc := 13) hx hb dJ36_siftUp_13 rfl (lv_at hl 0 rfl) ?_
    obtain ⟨v5, e5, hf⟩ := bdo hf
    refine g_get (pc := 14) (o := (some l0)) (a := l0) (ci := 17) (k := 2) (v := va_rf v5) (C := RJ36) (T := TJ36) (N := 4) hx hb hts hown hE hk hH in_J36 rfl (by decide) (hts _ q2456) (fun _ h9 => h9) rfl (rdR_o e5) dJ36_siftUp_14 ?_
    obtain ⟨_, S6, c6, n6, c2_6, n2_6, e6, hf, hC6, hN6⟩ := gbo hf
    refine g_callS (pc := 17) (As := [.int l1, va_rf l2, va_rf v4, va_rf v5]) (rest := []) (st1 := []) hc (mJ36_siftUpUsingComparator hk (l0 := l1) (l1 := l2) (l2 := v4) (l3 := v5) e6) (va_cwS 4 hts (lw_S q2377 q2378 q156 q2379) rfl rfl rfl jhdJ36_siftUpUsingComparator ⟨Nat.le_of_ble_eq_true rfl, Nat.le_of_ble_eq_true rfl⟩) rfl hl.1 rfl rfl (lv_room (Nat.le_of_ble_eq_true rfl)) dJ36_siftUp_17 hH hS (by omega) (by omega) (fun H locs hH hS => ?_)
    have hkc : kc + c6 + c2_6 ≤ mc := by omega
    have hks : ks + n6 + n2_6 ≤ ms := by omega
    refine lv_goto (pc := 20) (tgt := 32) hx hb dJ36_siftUp_20 (by decide) ?_
    exact g_vret (pc := 32) hx hb hr hlk hH hS hkc hks hf dJ36_siftUp_32
theorem mJ36_siftUp {l : Launch} {G : gG} {Rp : gM → gM → Nat → Prop} (hk : rOK Rp) {S S2 : gS} {r2 : Unit} {C N : Nat} {l0 : Nat} {l1 : Int32} {l2 : Option Nat} (hf : fJ36_siftUp G l0 l1 l2 S = some (r2, S2, C, N)) : gMet l yJ36_siftUp cJ36_siftUp 3 (none) 4 131 G Rp [.ref l0, .int l1, va_rf l2] S none S2 C N := by
  refine g_start (by decide) (by simp [lg_sl, va_rf_cat, cat_i, cat_j, cat_r]) (fun p e s m args below meth c ls hc hl hH => ?_)
  have hl : lv_has ls 3 [(0, .ref l0), (1, .int l1), (2, va_rf l2)] := by simpa [lv_args, va_rf_cat, cat_i, cat_j, cat_r] using hl
  exact wJ36_siftUp_b0 hk hc l0 l1 l2 S _ _ ls 0 0 C N (by omega) (by omega) hH va_S.rf (lv_sub hl [0, 1, 2] rfl) hf
end
section
variable {r : Int32} {Sf : gS}
def fJ36_offer (G : gG) (l0 : Nat) (l1 : Option Nat) (S : gS) : gO Int32 :=
  if l1 = none then
    none
  else
    bd (rdI S l0 17 3) fun v2 =>
    bd (wr S l0 17 3 (.int (v2 + (nI 1)))) fun S3 =>
    bd (rdI S3 l0 17 1) fun v4 =>
    bd (rdR S3 l0 17 0) fun v5 =>
    bd v5 fun a6 =>
    bd (lenQ G S3 a6) fun v7 =>
    if v4 < v7 then
      bd (chk S3 l0 17) fun _ =>
      gb (fJ36_siftUp G l0 v4 l1 S3) fun _ S9 =>
      bd (wr S9 l0 17 1 (.int (v4 + (nI 1)))) fun S10 =>
      zg (nI 1) S10
    else
      none
theorem wJ36_offer_b0 (hk : rOK Rp) (hc : gC p s m args meth c G RJ36 "offer" cJ36_offer 3 (some .boolean)) (l0 : Nat) (l1 : Option Nat) (S : gS) (H : Heap) (locs : List Loc) (ls : Array Slot) (kc ks C N : Nat) (hkc : kc + C ≤ mc) (hks : ks + N ≤ ms) (hH : hp G Rp S H) (hS : va_S G.2.2.2 s.heap H locs) (hl : lv_has ls 3 [(0, .ref l0), (1, va_rf l1)]) (hf : fJ36_offer G l0 l1 S = some (r, Sf, C, N)) : W p l e (gR 5 153 mc ms) s m args below meth c H locs kc ks (gQ below G Rp (some (.int r)) Sf args s mc ms) (F0 m 0 ls []) := by
  obtain ⟨hx, hb, hr, hlk, hml, hown, hts, hE, hA, hnm⟩ := hc
  have hc : gC p s m args meth c G RJ36 "offer" cJ36_offer 3 (some .boolean) := ⟨hx, hb, hr, hlk, hml, hown, hts, hE, hA, hnm⟩
  unfold fJ36_offer at hf
  refine g_aload_n (pc := 0) (o := l1) hx hb dJ36_offer_0 rfl (lv_at hl 1 rfl) ?_
  refine g_ifnonnull (pc := 1) (o := l1) (tgt := 12) hx hb dJ36_offer_1 (by decide) (fun c1 => ?_) (fun c1 => ?_)
  · rw [if_neg c1] at hf
    refine lv_aload_n (pc := 12) hx hb dJ36_offer_12 rfl (lv_at hl 0 rfl) ?_
    refine lv_dup (pc := 13) hx hb dJ36_offer_13 rfl ?_
    obtain ⟨v2, e2, hf⟩ := bdo hf
    refine g_get (pc := 14) (o := (some l0)) (a := l0) (ci := 17) (k := 3) (v := .int v2) (C := RJ36) (T := TJ36) (N := 4) hx hb hts hown hE hk hH in_J36 rfl (by decide) (hts _ q2458) (fun _ h9 => h9) rfl (rdI_o e2) dJ36_offer_14 ?_
    refine lv_iconst (pc := 17) (v := nI 1) hx hb dJ36_offer_17 rfl ?_
    refine lv_iadd (pc := 18) hx hb dJ36_offer_18 ?_
    obtain ⟨S3, e3, hf⟩ := bdo hf
    refine g_put (pc := 19) (o := (some l0)) (a := l0) (ci := 17) (k := 3) (v := .int (v2 + (nI 1))) (C := RJ36) (T := TJ36) (N := 4) (ty := .int) hx hb hts hown hE hk hH hS rfl in_J36 tyJ36_ok nmJ36 rfl (by decide) (hts _ q2458) (fun _ h9 => h9) rfl rfl rfl rfl rfl e3 dJ36_offer_19 (fun H locs hH hS => ?_)
    refine lv_aload_n (pc := 22) hx hb dJ36_offer_22 rfl (lv_at hl 0 rfl) ?_
    obtain ⟨v4, e4, hf⟩ := bdo hf
    refine g_get (pc := 23) (o := (some l0)) (a := l0) (ci := 17) (k := 1) (v := .int v4) (C := RJ36) (T := TJ36) (N := 4) hx hb hts hown hE hk hH in_J36 rfl (by decide) (hts _ q2455) (fun _ h9 => h9) rfl (rdI_o e4) dJ36_offer_23 ?_
    refine lv_istore_n (pc := 26) (i := 2) (lv' := [(2, .int v4), (0, .ref l0), (1, va_rf l1)]) hx hb dJ36_offer_26 rfl hl (by decide) (by simp [va_rf_cat, cat_i, cat_j, cat_r] <;> rfl) (fun ls hl => ?_)
    refine lv_iload_n (pc := 27) hx hb dJ36_offer_27 rfl (lv_at hl 0 rfl) ?_
    refine lv_aload_n (pc := 28) hx hb dJ36_offer_28 rfl (lv_at hl 1 rfl) ?_
    obtain ⟨v5, e5, hf⟩ := bdo hf
    refine g_get (pc := 29) (o := (some l0)) (a := l0) (ci := 17) (k := 0) (v := va_rf v5) (C := RJ36) (T := TJ36) (N := 4) hx hb hts hown hE hk hH in_J36 rfl (by decide) (hts _ q2453) (fun _ h9 => h9) rfl (rdR_o e5) dJ36_offer_29 ?_
    obtain ⟨a6, ea6, hf⟩ := bdo hf
    obtain ⟨v7, e7, hf⟩ := bdo hf
    refine g_lenQ (pc := 32) (o := v5) (a := a6) hx hb hE hk hH hS ea6 e7 dJ36_offer_32 ?_
    refine lv_icmp_lt (pc := 33) (tgt := 43) hx hb dJ36_offer_33 (by decide) (fun c8 => ?_) (fun c8 => ?_)
    · rw [if_pos c8] at hf
      refine lv_aload_n (pc := 43) hx hb dJ36_offer_43 rfl (lv_at hl 1 rfl) ?_
      refine lv_iload_n (pc := 44) hx hb dJ36_offer_44 rfl (lv_at hl 0 rfl) ?_
      refine g_aload_n (pc := 45) (o := l1) hx hb dJ36_offer_45 rfl (lv_at hl 2 rfl) ?_
      obtain ⟨_, ek9, hf⟩ := bdo hf
      obtain ⟨_, S9, c9, n9, c2_9, n2_9, e9, hf, hC9, hN9⟩ := gbo hf
      refine g_callV (pc := 46) (o := (some l0)) (b := l0) (As := [.int v4, va_rf l1]) (rest := []) (st1 := []) hc (mJ36_siftUp hk (l0 := l0) (l1 := v4) (l2 := l1) e9) (cwV 2 hts (lw_V q2373 q2375 qs38 q156 q2376) rfl rfl rfl jhdJ36_siftUp ⟨Nat.le_of_ble_eq_true rfl, Nat.le_of_ble_eq_true rfl⟩) (g_recv hE hk hH (ci := 17) (q := (RJ36, TJ36, 4)) rfl (chk_o ek9).choose_spec) rfl rfl hl.1 rfl rfl (lv_room (Nat.le_of_ble_eq_true rfl)) dJ36_offer_46 hH hS (by omega) (by omega) (fun H locs hH hS => ?_)
      have hkc : kc + c9 + c2_9 ≤ mc := by omega
      have hks : ks + n9 + n2_9 ≤ ms := by omega
      refine lv_aload_n (pc := 49) hx hb dJ36_offer_49 rfl (lv_at hl 1 rfl) ?_
      refine lv_iload_n (pc := 50) hx hb dJ36_offer_50 rfl (lv_at hl 0 rfl) ?_
      refine lv_iconst (pc := 51) (v := nI 1) hx hb dJ36_offer_51 rfl ?_
      refine lv_iadd (pc := 52) hx hb dJ36_offer_52 ?_
      obtain ⟨S10, e10, hf⟩ := bdo hf
      refine g_put (pc := 53) (o := (some l0)) (a := l0) (ci := 17) (k := 1) (v := .int (v4 + (nI 1))) (C := RJ36) (T := TJ36) (N := 4) (ty := .int) hx hb hts hown hE hk hH hS rfl in_J36 tyJ36_ok nmJ36 rfl (by decide) (hts _ q2455) (fun _ h9 => h9) rfl rfl rfl rfl rfl e10 dJ36_offer_53 (fun H locs hH hS => ?_)
      refine lv_iconst (pc := 56) (v := nI 1) hx hb dJ36_offer_56 rfl ?_
      exact g_zret (pc := 57) hx hb hr hlk hH hS hkc hks hf dJ36_offer_57
    · rw [if_neg c8] at hf
      refine lv_aload_n (pc := 36) hx hb dJ36_offer_36 rfl (lv_at hl 1 rfl) ?_
      refine lv_iload_n (pc := 37) hx hb dJ36_offer_37 rfl (lv_at hl 0 rfl) ?_
      refine lv_iconst (pc := 38) (v := nI 1) hx hb dJ36_offer_38 rfl ?_
      refine lv_iadd (pc := 39) hx hb dJ36_offer_39 ?_
      exact absurd hf (fun h => by cases h)
  · rw [if_pos c1] at hf
    exact absurd hf (fun h => by cases h)
theorem mJ36_offer {l : Launch} {G : gG} {Rp : gM → gM → Nat → Prop} (hk : rOK Rp) {S S2 : gS} {r2 : Int32} {C N : Nat} {l0 : Nat} {l1 : Option Nat} (hf : fJ36_offer G l0 l1 S = some (r2, S2, C, N)) : gMet l yJ36_offer cJ36_offer 3 (some .boolean) 5 153 G Rp [.ref l0, va_rf l1] S (some (.int r2)) S2 C N := by
  refine g_start (by decide) (by simp [lg_sl, va_rf_cat, cat_i, cat_j, cat_r]) (fun p e s m args below meth c ls hc hl hH => ?_)
  have hl : lv_has ls 3 [(0, .ref l0), (1, va_rf l1)] := by simpa [lv_args, va_rf_cat, cat_i, cat_j, cat_r] using hl
  exact wJ36_offer_b0 hk hc l0 l1 S _ _ ls 0 0 C N (by omega) (by omega) hH va_S.rf (lv_sub hl [0, 1] rfl) hf
end
section
variable {r : Int32} {Sf : gS}
def fJ36_add (G : gG) (l0 : Nat) (l1 : Option Nat) (S : gS) : gO Int32 :=
  bd (chk S l0 17) fun _ =>
  gb (fJ36_offer G l0 l1 S) fun v1 S1 =>
  zg v1 S1
theorem wJ36_add_b0 (hk : rOK Rp) (hc : gC p s m args meth c G RJ36 "add" cJ36_add 2 (some .boolean)) (l0 : Nat) (l1 : Option Nat) (S : gS) (H : Heap) (locs : List Loc) (ls : Array Slot) (kc ks C N : Nat) (hkc : kc + C ≤ mc) (hks : ks + N ≤ ms) (hH : hp G Rp S H) (hS : va_S G.2.2.2 s.heap H locs) (hl : lv_has ls 2 [(0, .ref l0), (1, va_rf l1)]) (hf : fJ36_add G l0 l1 S = some (r, Sf, C, N)) : W p l e (gR 6 175 mc ms) s m args below meth c H locs kc ks (gQ below G Rp (some (.int r)) Sf args s mc ms) (F0 m 0 ls []) := by
  obtain ⟨hx, hb, hr, hlk, hml, hown, hts, hE, hA, hnm⟩ := hc
  have hc : gC p s m args meth c G RJ36 "add" cJ36_add 2 (some .boolean) := ⟨hx, hb, hr, hlk, hml, hown, hts, hE, hA, hnm⟩
  unfold fJ36_add at hf
  refine lv_aload_n (pc := 0) hx hb dJ36_add_0 rfl (lv_at hl 0 rfl) ?_
  refine g_aload_n (pc := 1) (o := l1) hx hb dJ36_add_1 rfl (lv_at hl 1 rfl) ?_
  obtain ⟨_, ek1, hf⟩ := bdo hf
  obtain ⟨v1, S1, c1, n1, c2_1, n2_1, e1, hf, hC1, hN1⟩ := gbo hf
  refine g_callV (pc := 2) (o := (some l0)) (b := l0) (As := [va_rf l1]) (rest := []) (st1 := [.int v1]) hc (mJ36_offer hk (l0 := l0) (l1 := l1) e1) (cwV 1 hts (lw_V q2472 q2473 q2474 q156 q2475) rfl rfl rfl jhdJ36_offer ⟨Nat.le_of_ble_eq_true rfl, Nat.le_of_ble_eq_true rfl⟩) (g_recv hE hk hH (ci := 17) (q := (RJ36, TJ36, 4)) rfl (chk_o ek1).choose_spec) rfl rfl hl.1 rfl rfl (lv_room (Nat.le_of_ble_eq_true rfl)) dJ36_add_2 hH hS (by omega) (by omega) (fun H locs hH hS => ?_)
  have hkc : kc + c1 + c2_1 ≤ mc := by omega
  have hks : ks + n1 + n2_1 ≤ ms := by omega
  exact g_zret (pc := 5) hx hb hr hlk hH hS hkc hks hf dJ36_add_5
theorem mJ36_add {l : Launch} {G : gG} {Rp : gM → gM → Nat → Prop} (hk : rOK Rp) {S S2 : gS} {r2 : Int32} {C N : Nat} {l0 : Nat} {l1 : Option Nat} (hf : fJ36_add G l0 l1 S = some (r2, S2, C, N)) : gMet l yJ36_add cJ36_add 2 (some .boolean) 6 175 G Rp [.ref l0, va_rf l1] S (some (.int r2)) S2 C N := by
  refine g_start (by decide) (by simp [lg_sl, va_rf_cat, cat_i, cat_j, cat_r]) (fun p e s m args below meth c ls hc hl hH => ?_)
  have hl : lv_has ls 2 [(0, .ref l0), (1, va_rf l1)] := by simpa [lv_args, va_rf_cat, cat_i, cat_j, cat_r] using hl
  exact wJ36_add_b0 hk hc l0 l1 S _ _ ls 0 0 C N (by omega) (by omega) hH va_S.rf (lv_sub hl [0, 1] rfl) hf
end
section
variable {r : Int32} {Sf : gS}
def fJ36_size (G : gG) (l0 : Nat) (S : gS) : gO Int32 :=
  bd (rdI S l0 17 1) fun v1 =>
  some (v1, S, 0, 0)
theorem wJ36_size_b0 (hk : rOK Rp) (hc : gC p s m args meth c G RJ36 "size" cJ36_size 1 (some .int)) (l0 : Nat) (S : gS) (H : Heap) (locs : List Loc) (ls : Array Slot) (kc ks C N : Nat) (hkc : kc + C ≤ mc) (hks : ks + N ≤ ms) (hH : hp G Rp S H) (hS : va_S G.2.2.2 s.heap H locs) (hl : lv_has ls 1 [(0, .ref l0)]) (hf : fJ36_size G l0 S = some (r, Sf, C, N)) : W p l e (gR 1 60 mc ms) s m args below meth c H locs kc ks (gQ below G Rp (some (.int r)) Sf args s mc ms) (F0 m 0 ls []) := by
  obtain ⟨hx, hb, hr, hlk, hml, hown, hts, hE, hA, hnm⟩ := hc
  have hc : gC p s m args meth c G RJ36 "size" cJ36_size 1 (some .int) := ⟨hx, hb, hr, hlk, hml, hown, hts, hE, hA, hnm⟩
  unfold fJ36_size at hf
  refine lv_aload_n (pc := 0) hx hb dJ36_size_0 rfl (lv_at hl 0 rfl) ?_
  obtain ⟨v1, e1, hf⟩ := bdo hf
  refine g_get (pc := 1) (o := (some l0)) (a := l0) (ci := 17) (k := 1) (v := .int v1) (C := RJ36) (T := TJ36) (N := 4) hx hb hts hown hE hk hH in_J36 rfl (by decide) (hts _ q2455) (fun _ h9 => h9) rfl (rdI_o e1) dJ36_size_1 ?_
  exact g_iret (pc := 4) hx hb hr hlk hH hS hkc hks hf dJ36_size_4
theorem mJ36_size {l : Launch} {G : gG} {Rp : gM → gM → Nat → Prop} (hk : rOK Rp) {S S2 : gS} {r2 : Int32} {C N : Nat} {l0 : Nat} (hf : fJ36_size G l0 S = some (r2, S2, C, N)) : gMet l yJ36_size cJ36_size 1 (some .int) 1 60 G Rp [.ref l0] S (some (.int r2)) S2 C N := by
  refine g_start (by decide) (Nat.le_of_ble_eq_true rfl) (fun p e s m args below meth c ls hc hl hH => ?_)
  have hl : lv_has ls 1 [(0, .ref l0)] := hl
  exact wJ36_size_b0 hk hc l0 S _ _ ls 0 0 C N (by omega) (by omega) hH va_S.rf (lv_sub hl [0] rfl) hf
end
section
variable {r : Unit} {Sf : gS}
def fJ39_init (G : gG) (l0 : Nat) (l1 : Option Nat) (S : gS) : gO Unit :=
  bd (wr S l0 23 5 (va_rf l1)) fun S1 =>
  bd (wr S1 l0 23 1 (.int (-1))) fun S3 =>
  bd (rdR S3 l0 23 5) fun v4 =>
  bd v4 fun a5 =>
  bd (rdI S3 a5 17 3) fun v6 =>
  bd (wr S3 l0 23 4 (.int v6)) fun S7 =>
  some ((), S7, 0, 0)
theorem wJ39_init_b0 (hk : rOK Rp) (hc : gC p s m args meth c G RJ39 "<init>" cJ39_init 2 (none)) (l0 : Nat) (l1 : Option Nat) (S : gS) (H : Heap) (locs : List Loc) (ls : Array Slot) (kc ks C N : Nat) (hkc : kc + C ≤ mc) (hks : ks + N ≤ ms) (hH : hp G Rp S H) (hS : va_S G.2.2.2 s.heap H locs) (hl : lv_has ls 2 [(0, .ref l0), (1, va_rf l1)]) (hf : fJ39_init G l0 l1 S = some (r, Sf, C, N)) : W p l e (gR 1 60 mc ms) s m args below meth c H locs kc ks (gQ below G Rp none Sf args s mc ms) (F0 m 0 ls []) := by
  obtain ⟨hx, hb, hr, hlk, hml, hown, hts, hE, hA, hnm⟩ := hc
  have hc : gC p s m args meth c G RJ39 "<init>" cJ39_init 2 (none) := ⟨hx, hb, hr, hlk, hml, hown, hts, hE, hA, hnm⟩
  unfold fJ39_init at hf
  refine lv_aload_n (pc := 0) hx hb dJ39_init_0 rfl (lv_at hl 0 rfl) ?_
  refine g_aload_n (pc := 1) (o := l1) hx hb dJ39_init_1 rfl (lv_at hl 1 rfl) ?_
  obtain ⟨S1, e1, hf⟩ := bdo hf
  refine g_putF (pc := 2) (o := (some l0)) (a := l0) (ci := 23) (k := 5) (v := va_rf l1) (C := RJ39) (T := TJ39) (N := 6) (ty := .object "java/util/PriorityQueue") hx hb hts hown hE hk hH hS rfl in_J39 tyJ39_ok nmJ39 rfl (by decide) (hts _ q2589) (fun _ h9 => h9) rfl hnm rfl rfl (nar_rf _ _) (fit_rf _ _) rfl e1 dJ39_init_2 (fun H locs hH hS => ?_)
  refine lv_aload_n (pc := 5) hx hb dJ39_init_5 rfl (lv_at hl 0 rfl) ?_
  refine W.objInit  hx hb hown (hts _ q2583) (hts _ q169) (hts _ q170) rfl (by rw [hml]; exact hl.1) rfl dJ39_init_6 (Nat.le_of_ble_eq_true rfl) (Nat.le_of_ble_eq_true rfl) ?_
  refine W.eq (g2 := F0 m 9 ls []) rfl ?_
  refine lv_aload_n (pc := 9) hx hb dJ39_init_9 rfl (lv_at hl 0 rfl) ?_
  refine lv_iconst (pc := 10) (v := -1) hx hb dJ39_init_10 rfl ?_
  obtain ⟨S3, e3, hf⟩ := bdo hf
  refine g_put (pc := 11) (o := (some l0)) (a := l0) (ci := 23) (k := 1) (v := .int (-1)) (C := RJ39) (T := TJ39) (N := 6) (ty := .int) hx hb hts hown hE hk hH hS rfl in_J39 tyJ39_ok nmJ39 rfl (by decide) (hts _ q2585) (fun _ h9 => h9) rfl rfl rfl rfl rfl e3 dJ39_init_11 (fun H locs hH hS => ?_)
  refine lv_aload_n (pc := 14) hx hb dJ39_init_14 rfl (lv_at hl 0 rfl) ?_
  refine lv_aload_n (pc := 15) hx hb dJ39_init_15 rfl (lv_at hl 0 rfl) ?_
  obtain ⟨v4, e4, hf⟩ := bdo hf
  refine g_get (pc := 16) (o := (some l0)) (a := l0) (ci := 23) (k := 5) (v := va_rf v4) (C := RJ39) (T := TJ39) (N := 6) hx hb hts hown hE hk hH in_J39 rfl (by decide) (hts _ q2589) (fun _ h9 => h9) rfl (rdR_o e4) dJ39_init_16 ?_
  obtain ⟨a5, ea5, hf⟩ := bdo hf
  obtain ⟨v6, e6, hf⟩ := bdo hf
  refine g_get (pc := 19) (o := v4) (a := a5) (ci := 17) (k := 3) (v := .int v6) (C := RJ36) (T := TJ36) (N := 4) hx hb hts hown hE hk hH in_J36 rfl (by decide) (hts _ q2457) (fun _ h9 => h9) ea5 (rdI_o e6) dJ39_init_19 ?_
  obtain ⟨S7, e7, hf⟩ := bdo hf
  refine g_put (pc := 22) (o := (some l0)) (a := l0) (ci := 23) (k := 4) (v := .int v6) (C := RJ39) (T := TJ39) (N := 6) (ty := .int) hx hb hts hown hE hk hH hS rfl in_J39 tyJ39_ok nmJ39 rfl (by decide) (hts _ q2588) (fun _ h9 => h9) rfl rfl rfl rfl rfl e7 dJ39_init_22 (fun H locs hH hS => ?_)
  exact g_vret (pc := 25) hx hb hr hlk hH hS hkc hks hf dJ39_init_25
theorem mJ39_init {l : Launch} {G : gG} {Rp : gM → gM → Nat → Prop} (hk : rOK Rp) {S S2 : gS} {r2 : Unit} {C N : Nat} {l0 : Nat} {l1 : Option Nat} (hf : fJ39_init G l0 l1 S = some (r2, S2, C, N)) : gMet l yJ39_init cJ39_init 2 (none) 1 60 G Rp [.ref l0, va_rf l1] S none S2 C N := by
  refine g_start (by decide) (by simp [lg_sl, va_rf_cat, cat_i, cat_j, cat_r]) (fun p e s m args below meth c ls hc hl hH => ?_)
  have hl : lv_has ls 2 [(0, .ref l0), (1, va_rf l1)] := by simpa [lv_args, va_rf_cat, cat_i, cat_j, cat_r] using hl
  exact wJ39_init_b0 hk hc l0 l1 S _ _ ls 0 0 C N (by omega) (by omega) hH va_S.rf (lv_sub hl [0, 1] rfl) hf
end
section
variable {r : Option Nat} {Sf : gS}
def fJ36_iterator (G : gG) (l0 : Nat) (S : gS) : gO (Option Nat) :=
  nw S (cO 23 [.int 0, .int 0, .null, .null, .int 0, .null]) 6 fun S1 =>
  gb (fJ39_init G S.2 (some l0) S1) fun _ S2 =>
  some ((some S.2), S2, 0, 0)
theorem wJ36_iterator_b0 (hk : rOK Rp) (hc : gC p s m args meth c G RJ36 "iterator" cJ36_iterator 1 (some (.object "java/util/Iterator"))) (l0 : Nat) (S : gS) (H : Heap) (locs : List Loc) (ls : Array Slot) (kc ks C N : Nat) (hkc : kc + C ≤ mc) (hks : ks + N ≤ ms) (hH : hp G Rp S H) (hS : va_S G.2.2.2 s.heap H locs) (hl : lv_has ls 1 [(0, .ref l0)]) (hf : fJ36_iterator G l0 S = some (r, Sf, C, N)) : W p l e (gR 2 81 mc ms) s m args below meth c H locs kc ks (gQ below G Rp (some (va_rf r)) Sf args s mc ms) (F0 m 0 ls []) := by
  obtain ⟨hx, hb, hr, hlk, hml, hown, hts, hE, hA, hnm⟩ := hc
  have hc : gC p s m args meth c G RJ36 "iterator" cJ36_iterator 1 (some (.object "java/util/Iterator")) := ⟨hx, hb, hr, hlk, hml, hown, hts, hE, hA, hnm⟩
  unfold fJ36_iterator at hf
  obtain ⟨S1, c2_1, n2_1, eS1, hf, hC1, hN1⟩ := nwo hf
  refine g_newo (pc := 0) (ci := 23) (C := RJ39) (T := TJ39) (N := 6) (fs := [.int 0, .int 0, .null, .null, .int 0, .null]) hx hb hts hown hE hA hk hH hS in_J39 tyJ39_ok q2578 q2579 q160 rfl (fun j hj => by rcases (show j = 0 ∨ j = 1 ∨ j = 2 ∨ j = 3 ∨ j = 4 ∨ j = 5 by omega) with rfl | rfl | rfl | rfl | rfl | rfl <;> rfl) eS1 (Nat.le_trans (by omega) hkc) (Nat.le_trans (by omega) hks) dJ36_iterator_0 (fun H hH hS => ?_)
  have hkc : kc + 1 + c2_1 ≤ mc := by omega
  have hks : ks + 6 + n2_1 ≤ ms := by omega
  refine lv_dup (pc := 3) hx hb dJ36_iterator_3 rfl ?_
  refine lv_aload_n (pc := 4) hx hb dJ36_iterator_4 rfl (lv_at hl 0 rfl) ?_
  obtain ⟨_, S2, c2, n2, c2_2, n2_2, e2, hf, hC2, hN2⟩ := gbo hf
  refine g_callI (pc := 5) (o := (some S.2)) (b := S.2) (As := [.ref l0]) (rest := [.ref S.2]) hc (mJ39_init hk (l0 := S.2) (l1 := (some l0)) e2) (cwI 1 hts (lw_meth q2582) rfl rfl rfl (hts _ q160) (hts _ q2580) (hts _ q2581) rfl jhdiJ39_init ⟨Nat.le_of_ble_eq_true rfl, Nat.le_of_ble_eq_true rfl⟩) rfl rfl hl.1 rfl (lv_room (Nat.le_of_ble_eq_true rfl)) dJ36_iterator_5 hH hS (by omega) (by omega) (fun H locs hH hS => ?_)
  have hkc : kc + 1 + c2 + c2_2 ≤ mc := by omega
  have hks : ks + 6 + n2 + n2_2 ≤ ms := by omega
  exact g_aret (pc := 8) (v := (some S.2)) hx hb hr (Or.inl ⟨_, rfl⟩) hlk hH hS hkc hks hf dJ36_iterator_8
theorem mJ36_iterator {l : Launch} {G : gG} {Rp : gM → gM → Nat → Prop} (hk : rOK Rp) {S S2 : gS} {r2 : Option Nat} {C N : Nat} {l0 : Nat} (hf : fJ36_iterator G l0 S = some (r2, S2, C, N)) : gMet l yJ36_iterator cJ36_iterator 1 (some (.object "java/util/Iterator")) 2 81 G Rp [.ref l0] S (some (va_rf r2)) S2 C N := by
  refine g_start (by decide) (Nat.le_of_ble_eq_true rfl) (fun p e s m args below meth c ls hc hl hH => ?_)
  have hl : lv_has ls 1 [(0, .ref l0)] := hl
  exact wJ36_iterator_b0 hk hc l0 S _ _ ls 0 0 C N (by omega) (by omega) hH va_S.rf (lv_sub hl [0] rfl) hf
end
section
variable {r : Unit} {Sf : gS}
def fJ0_init_c18 (G : gG) (l0 : Nat) (S : gS) : gO Unit :=
  some ((), S, 0, 0)
theorem wJ0_init_c18_b0 (hk : rOK Rp) (hc : gC p s m args meth c G RJ0 "<init>" cJ0_init 1 (none)) (l0 : Nat) (S : gS) (H : Heap) (locs : List Loc) (ls : Array Slot) (kc ks C N : Nat) (hkc : kc + C ≤ mc) (hks : ks + N ≤ ms) (hH : hp G Rp S H) (hS : va_S G.2.2.2 s.heap H locs) (hl : lv_has ls 1 [(0, .ref l0)]) (hf : fJ0_init_c18 G l0 S = some (r, Sf, C, N)) : W p l e (gR 1 60 mc ms) s m args below meth c H locs kc ks (gQ below G Rp none Sf args s mc ms) (F0 m 0 ls []) := by
  obtain ⟨hx, hb, hr, hlk, hml, hown, hts, hE, hA, hnm⟩ := hc
  have hc : gC p s m args meth c G RJ0 "<init>" cJ0_init 1 (none) := ⟨hx, hb, hr, hlk, hml, hown, hts, hE, hA, hnm⟩
  unfold fJ0_init_c18 at hf
  refine lv_aload_n (pc := 0) hx hb dJ0_init_0 rfl (lv_at hl 0 rfl) ?_
  refine W.objInit  hx hb hown (hts _ q188) (hts _ q169) (hts _ q170) rfl (by rw [hml]; exact hl.1) rfl dJ0_init_1 (Nat.le_of_ble_eq_true rfl) (Nat.le_of_ble_eq_true rfl) ?_
  refine W.eq (g2 := F0 m 4 ls []) rfl ?_
  exact g_vret (pc := 4) hx hb hr hlk hH hS hkc hks hf dJ0_init_4
theorem mJ0_init_c18 {l : Launch} {G : gG} {Rp : gM → gM → Nat → Prop} (hk : rOK Rp) {S S2 : gS} {r2 : Unit} {C N : Nat} {l0 : Nat} (hf : fJ0_init_c18 G l0 S = some (r2, S2, C, N)) : gMet l yJ0_init cJ0_init 1 (none) 1 60 G Rp [.ref l0] S none S2 C N := by
  refine g_start (by decide) (Nat.le_of_ble_eq_true rfl) (fun p e s m args below meth c ls hc hl hH => ?_)
  have hl : lv_has ls 1 [(0, .ref l0)] := hl
  exact wJ0_init_c18_b0 hk hc l0 S _ _ ls 0 0 C N (by omega) (by omega) hH va_S.rf (lv_sub hl [0] rfl) hf
end
section
variable {r : Unit} {Sf : gS}
def fJ28_init (G : gG) (l0 : Nat) (S : gS) : gO Unit :=
  gb (fJ0_init_c18 G l0 S) fun _ S1 =>
  nwq S1 5 (nI 17) fun S2 =>
  bd (wr S2 l0 18 0 (.ref S1.2)) fun S3 =>
  some ((), S3, 0, 0)
theorem wJ28_init_b0 (hk : rOK Rp) (hc : gC p s m args meth c G RJ28 "<init>" cJ28_init 1 (none)) (l0 : Nat) (S : gS) (H : Heap) (locs : List Loc) (ls : Array Slot) (kc ks C N : Nat) (hkc : kc + C ≤ mc) (hks : ks + N ≤ ms) (hH : hp G Rp S H) (hS : va_S G.2.2.2 s.heap H locs) (hl : lv_has ls 1 [(0, .ref l0)]) (hf : fJ28_init G l0 S = some (r, Sf, C, N)) : W p l e (gR 2 80 mc ms) s m args below meth c H locs kc ks (gQ below G Rp none Sf args s mc ms) (F0 m 0 ls []) := by
  obtain ⟨hx, hb, hr, hlk, hml, hown, hts, hE, hA, hnm⟩ := hc
  have hc : gC p s m args meth c G RJ28 "<init>" cJ28_init 1 (none) := ⟨hx, hb, hr, hlk, hml, hown, hts, hE, hA, hnm⟩
  unfold fJ28_init at hf
  refine lv_aload_n (pc := 0) hx hb dJ28_init_0 rfl (lv_at hl 0 rfl) ?_
  obtain ⟨_, S1, c1, n1, c2_1, n2_1, e1, hf, hC1, hN1⟩ := gbo hf
  refine g_callI (pc := 1) (o := (some l0)) (b := l0) (As := []) (rest := []) hc (mJ0_init_c18 hk (l0 := l0) e1) (cwI 0 hts (lw_meth q187) rfl rfl rfl (hts _ q99) (hts _ q2388) (hts _ q186) rfl jhdiJ0_init ⟨Nat.le_of_ble_eq_true rfl, Nat.le_of_ble_eq_true rfl⟩) rfl rfl hl.1 rfl (lv_room (Nat.le_of_ble_eq_true rfl)) dJ28_init_1 hH hS (by omega) (by omega) (fun H locs hH hS => ?_)
  have hkc : kc + c1 + c2_1 ≤ mc := by omega
  have hks : ks + n1 + n2_1 ≤ ms := by omega
  refine lv_aload_n (pc := 4) hx hb dJ28_init_4 rfl (lv_at hl 0 rfl) ?_
  refine lv_bipush (pc := 5) (v := nI 17) hx hb dJ28_init_5 jgkb17 ?_
  obtain ⟨hn2, hi2, S2, c2_2, n2_2, eS2, hf, hC2, hN2⟩ := nwqo hf
  refine g_newqo (pc := 7) (C := "java/lang/Object") (t := 5) (t0 := 5) hx hb hts hown hE hA hk hH hS q2389 q1109 rfl hn2 hi2 eS2 (Nat.le_trans (by omega) hkc) (Nat.le_trans (by omega) hks) dJ28_init_7 (fun H hH hS => ?_)
  have hkc : kc + c1 + 1 + c2_2 ≤ mc := by omega
  have hks : ks + n1 + (nI 17).toNatClampNeg + n2_2 ≤ ms := by omega
  obtain ⟨S3, e3, hf⟩ := bdo hf
  refine g_put (pc := 10) (o := (some l0)) (a := l0) (ci := 18) (k := 0) (v := .ref S1.2) (C := RJ28) (T := TJ28) (N := 3) (ty := tyJ28 0) hx hb hts hown hE hk hH hS rfl in_J28 tyJ28_ok nmJ28 rfl (by decide) (hts _ q2390) (fun _ h9 => h9) rfl rfl rfl rfl rfl e3 dJ28_init_10 (fun H locs hH hS => ?_)
  exact g_vret (pc := 13) hx hb hr hlk hH hS hkc hks hf dJ28_init_13
theorem mJ28_init {l : Launch} {G : gG} {Rp : gM → gM → Nat → Prop} (hk : rOK Rp) {S S2 : gS} {r2 : Unit} {C N : Nat} {l0 : Nat} (hf : fJ28_init G l0 S = some (r2, S2, C, N)) : gMet l yJ28_init cJ28_init 1 (none) 2 80 G Rp [.ref l0] S none S2 C N := by
  refine g_start (by decide) (Nat.le_of_ble_eq_true rfl) (fun p e s m args below meth c ls hc hl hH => ?_)
  have hl : lv_has ls 1 [(0, .ref l0)] := hl
  exact wJ28_init_b0 hk hc l0 S _ _ ls 0 0 C N (by omega) (by omega) hH va_S.rf (lv_sub hl [0] rfl) hf
end
section
variable {r : Int32} {Sf : gS}
def fJ28_inc (G : gG) (l0 : Int32) (l1 : Int32) (S : gS) : gO Int32 :=
  if (l0 + (nI 1)) < l1 then
    some (l0 + (nI 1), S, 0, 0)
  else
    some (nI 0, S, 0, 0)
theorem wJ28_inc_b0 (hk : rOK Rp) (hc : gC p s m args meth c G RJ28 "inc" cJ28_inc 2 (some .int)) (l0 : Int32) (l1 : Int32) (S : gS) (H : Heap) (locs : List Loc) (ls : Array Slot) (kc ks C N : Nat) (hkc : kc + C ≤ mc) (hks : ks + N ≤ ms) (hH : hp G Rp S H) (hS : va_S G.2.2.2 s.heap H locs) (hl : lv_has ls 2 [(0, .int l0), (1, .int l1)]) (hf : fJ28_inc G l0 l1 S = some (r, Sf, C, N)) : W p l e (gR 1 60 mc ms) s m args below meth c H locs kc ks (gQ below G Rp (some (.int r)) Sf args s mc ms) (F0 m 0 ls []) := by
  obtain ⟨hx, hb, hr, hlk, hml, hown, hts, hE, hA, hnm⟩ := hc
  have hc : gC p s m args meth c G RJ28 "inc" cJ28_inc 2 (some .int) := ⟨hx, hb, hr, hlk, hml, hown, hts, hE, hA, hnm⟩
  unfold fJ28_inc at hf
  refine lv_iinc (pc := 0) (v := l0 + (nI 1)) (lv' := [(0, .int (l0 + (nI 1))), (1, .int l1)]) hx hb dJ28_inc_0 hl (k := 0) rfl rfl (by decide) rfl (fun ls hl => ?_)
  refine lv_iload_n (pc := 3) hx hb dJ28_inc_3 rfl (lv_at hl 0 rfl) ?_
  refine lv_iload_n (pc := 4) hx hb dJ28_inc_4 rfl (lv_at hl 1 rfl) ?_
  refine lv_icmp_lt (pc := 5) (tgt := 10) hx hb dJ28_inc_5 (by decide) (fun c1 => ?_) (fun c1 => ?_)
  · rw [if_pos c1] at hf
    refine lv_iload_n (pc := 10) hx hb dJ28_inc_10 rfl (lv_at hl 0 rfl) ?_
    exact g_iret (pc := 11) hx hb hr hlk hH hS hkc hks hf dJ28_inc_11
  · rw [if_neg c1] at hf
    refine lv_iconst (pc := 8) (v := nI 0) hx hb dJ28_inc_8 rfl ?_
    refine lv_istore_n (pc := 9) (i := 0) (lv' := [(0, .int (nI 0)), (1, .int l1)]) hx hb dJ28_inc_9 rfl hl (by decide) rfl (fun ls hl => ?_)
    refine lv_iload_n (pc := 10) hx hb dJ28_inc_10 rfl (lv_at hl 0 rfl) ?_
    exact g_iret (pc := 11) hx hb hr hlk hH hS hkc hks hf dJ28_inc_11
theorem mJ28_inc {l : Launch} {G : gG} {Rp : gM → gM → Nat → Prop} (hk : rOK Rp) {S S2 : gS} {r2 : Int32} {C N : Nat} {l0 : Int32} {l1 : Int32} (hf : fJ28_inc G l0 l1 S = some (r2, S2, C, N)) : gMet l yJ28_inc cJ28_inc 2 (some .int) 1 60 G Rp [.int l0, .int l1] S (some (.int r2)) S2 C N := by
  refine g_start (by decide) (Nat.le_of_ble_eq_true rfl) (fun p e s m args below meth c ls hc hl hH => ?_)
  have hl : lv_has ls 2 [(0, .int l0), (1, .int l1)] := hl
  exact wJ28_inc_b0 hk hc l0 l1 S _ _ ls 0 0 C N (by omega) (by omega) hH va_S.rf (lv_sub hl [0, 1] rfl) hf
end
section
variable {r : Int32} {Sf : gS}
def fJ28_newCapacity (G : gG) (l0 : Nat) (l1 : Int32) (l2 : Int32) (S : gS) : gO Int32 :=
  bd (rdR S l0 18 0) fun v1 =>
  bd v1 fun a2 =>
  bd (lenQ G S a2) fun v3 =>
  if ((v3 + l1) - (nI 2147483639)) ≤ 0 then
    if l1 ≤ l2 then
      if 0 ≤ ((v3 + l2) - (nI 2147483639)) then
        some (nI 2147483639, S, 0, 0)
      else
        some (v3 + l2, S, 0, 0)
    else
      some (v3 + l1, S, 0, 0)
  else
    if 0 ≤ (v3 + l1) then
      some (nI 2147483647, S, 0, 0)
    else
      none
theorem wJ28_newCapacity_b0 (hk : rOK Rp) (hc : gC p s m args meth c G RJ28 "newCapacity" cJ28_newCapacity 5 (some .int)) (l0 : Nat) (l1 : Int32) (l2 : Int32) (S : gS) (H : Heap) (locs : List Loc) (ls : Array Slot) (kc ks C N : Nat) (hkc : kc + C ≤ mc) (hks : ks + N ≤ ms) (hH : hp G Rp S H) (hS : va_S G.2.2.2 s.heap H locs) (hl : lv_has ls 5 [(0, .ref l0), (1, .int l1), (2, .int l2)]) (hf : fJ28_newCapacity G l0 l1 l2 S = some (r, Sf, C, N)) : W p l e (gR 1 60 mc ms) s m args below meth c H locs kc ks (gQ below G Rp (some (.int r)) Sf args s mc ms) (F0 m 0 ls []) := by
  obtain ⟨hx, hb, hr, hlk, hml, hown, hts, hE, hA, hnm⟩ := hc
  have hc : gC p s m args meth c G RJ28 "newCapacity" cJ28_newCapacity 5 (some .int) := ⟨hx, hb, hr, hlk, hml, hown, hts, hE, hA, hnm⟩
  unfold fJ28_newCapacity at hf
  refine lv_aload_n (pc := 0) hx hb dJ28_newCapacity_0 rfl (lv_at hl 0 rfl) ?_
  obtain ⟨v1, e1, hf⟩ := bdo hf
  refine g_get (pc := 1) (o := (some l0)) (a := l0) (ci := 18) (k := 0) (v := va_rf v1) (C := RJ28) (T := TJ28) (N := 3) hx hb hts hown hE hk hH in_J28 rfl (by decide) (hts _ q2390) (fun _ h9 => h9) rfl (rdR_o e1) dJ28_newCapacity_1 ?_
  obtain ⟨a2, ea2, hf⟩ := bdo hf
  obtain ⟨v3, e3, hf⟩ := bdo hf
  refine g_lenQ (pc := 4) (o := v1) (a := a2) hx hb hE hk hH hS ea2 e3 dJ28_newCapacity_4 ?_
  refine lv_istore_n (pc := 5) (i := 3) (lv' := [(3, .int v3), (0, .ref l0), (1, .int l1), (2, .int l2)]) hx hb dJ28_newCapacity_5 rfl hl (by decide) rfl (fun ls hl => ?_)
  refine lv_iload_n (pc := 6) hx hb dJ28_newCapacity_6 rfl (lv_at hl 0 rfl) ?_
  refine lv_iload_n (pc := 7) hx hb dJ28_newCapacity_7 rfl (lv_at hl 2 rfl) ?_
  refine lv_iadd (pc := 8) hx hb dJ28_newCapacity_8 ?_
  refine lv_dup (pc := 9) hx hb dJ28_newCapacity_9 rfl ?_
  refine lv_istore (pc := 10) (i := 4) (lv' := [(4, .int (v3 + l1)), (3, .int v3), (0, .ref l0), (1, .int l1), (2, .int l2)]) hx hb dJ28_newCapacity_10 hl (by decide) rfl (fun ls hl => ?_)
  refine lv_ldc (pc := 12) (v := nI 2147483639) hx hb hown (hts _ q2416) dJ28_newCapacity_12 ?_
  refine lv_isub (pc := 14) hx hb dJ28_newCapacity_14 ?_
  refine lv_if_le (pc := 15) (tgt := 36) hx hb dJ28_newCapacity_15 (by decide) (fun c4 => ?_) (fun c4 => ?_)
  · rw [if_pos c4] at hf
    refine lv_iload_n (pc := 36) hx hb dJ28_newCapacity_36 rfl (lv_at hl 3 rfl) ?_
    refine lv_iload_n (pc := 37) hx hb dJ28_newCapacity_37 rfl (lv_at hl 4 rfl) ?_
    refine lv_icmp_le (pc := 38) (tgt := 44) hx hb dJ28_newCapacity_38 (by decide) (fun c5 => ?_) (fun c5 => ?_)
    · rw [if_pos c5] at hf
      refine lv_iload_n (pc := 44) hx hb dJ28_newCapacity_44 rfl (lv_at hl 1 rfl) ?_
      refine lv_iload_n (pc := 45) hx hb dJ28_newCapacity_45 rfl (lv_at hl 4 rfl) ?_
      refine lv_iadd (pc := 46) hx hb dJ28_newCapacity_46 ?_
      refine lv_ldc (pc := 47) (v := nI 2147483639) hx hb hown (hts _ q2416) dJ28_newCapacity_47 ?_
      refine lv_isub (pc := 49) hx hb dJ28_newCapacity_49 ?_
      refine lv_if_ge (pc := 50) (tgt := 59) hx hb dJ28_newCapacity_50 (by decide) (fun c6 => ?_) (fun c6 => ?_)
      · rw [if_pos c6] at hf
        refine lv_ldc (pc := 59) (v := nI 2147483639) hx hb hown (hts _ q2416) dJ28_newCapacity_59 ?_
        exact g_iret (pc := 61) hx hb hr hlk hH hS hkc hks hf dJ28_newCapacity_61
      · rw [if_neg c6] at hf
        refine lv_iload_n (pc := 53) hx hb dJ28_newCapacity_53 rfl (lv_at hl 1 rfl) ?_
        refine lv_iload_n (pc := 54) hx hb dJ28_newCapacity_54 rfl (lv_at hl 4 rfl) ?_
        refine lv_iadd (pc := 55) hx hb dJ28_newCapacity_55 ?_
        refine lv_goto (pc := 56) (tgt := 61) hx hb dJ28_newCapacity_56 (by decide) ?_
        exact g_iret (pc := 61) hx hb hr hlk hH hS hkc hks hf dJ28_newCapacity_61
    · rw [if_neg c5] at hf
      refine lv_iload (pc := 41) hx hb dJ28_newCapacity_41 (lv_at hl 0 rfl) ?_
      exact g_iret (pc := 43) hx hb hr hlk hH hS hkc hks hf dJ28_newCapacity_43
  · rw [if_neg c4] at hf
    refine lv_iload (pc := 18) hx hb dJ28_newCapacity_18 (lv_at hl 0 rfl) ?_
    refine lv_if_ge (pc := 20) (tgt := 33) hx hb dJ28_newCapacity_20 (by decide) (fun c7 => ?_) (fun c7 => ?_)
    · rw [if_pos c7] at hf
      refine lv_ldc (pc := 33) (v := nI 2147483647) hx hb hown (hts _ q2421) dJ28_newCapacity_33 ?_
      exact g_iret (pc := 35) hx hb hr hlk hH hS hkc hks hf dJ28_newCapacity_35
    · rw [if_neg c7] at hf
      exact absurd hf (fun h => by cases h)
theorem mJ28_newCapacity {l : Launch} {G : gG} {Rp : gM → gM → Nat → Prop} (hk : rOK Rp) {S S2 : gS} {r2 : Int32} {C N : Nat} {l0 : Nat} {l1 : Int32} {l2 : Int32} (hf : fJ28_newCapacity G l0 l1 l2 S = some (r2, S2, C, N)) : gMet l yJ28_newCapacity cJ28_newCapacity 5 (some .int) 1 60 G Rp [.ref l0, .int l1, .int l2] S (some (.int r2)) S2 C N := by
  refine g_start (by decide) (Nat.le_of_ble_eq_true rfl) (fun p e s m args below meth c ls hc hl hH => ?_)
  have hl : lv_has ls 5 [(0, .ref l0), (1, .int l1), (2, .int l2)] := hl
  exact wJ28_newCapacity_b0 hk hc l0 l1 l2 S _ _ ls 0 0 C N (by omega) (by omega) hH va_S.rf (lv_sub hl [0, 1, 2] rfl) hf
end
section
variable {r : Unit} {Sf : gS}
def fJ28_grow_b145 (G : gG) : Nat → (Option Nat) → Int32 → Int32 → gS → gO Unit
  | 0, _, _, _, _ => none
  | n + 1, l5, l7, l8, S =>
    if l8 ≤ l7 then
      some ((), S, 0, 0)
    else
      bd l5 fun a2 =>
      bd (wrAq S a2 5 l7 none) fun S3 =>
      fJ28_grow_b145 G n l5 (l7 + (nI 1)) l8 S3
theorem wJ28_grow_b145 (hk : rOK Rp) (hc : gC p s m args meth c G RJ28 "grow" cJ28_grow 9 (none)) : ∀ (n : Nat) (l5 : Option Nat) (l7 : Int32) (l8 : Int32) (S : gS) (H : Heap) (locs : List Loc) (ls : Array Slot) (kc ks C N : Nat), kc + C ≤ mc → ks + N ≤ ms → hp G Rp S H → va_S G.2.2.2 s.heap H locs → lv_has ls 9 [(5, va_rf l5), (7, .int l7), (8, .int l8)] → fJ28_grow_b145 G n l5 l7 l8 S = some (r, Sf, C, N) → W p l e (gR 3 104 mc ms) s m args below meth c H locs kc ks (gQ below G Rp none Sf args s mc ms) (F0 m 145 ls []) := by
  obtain ⟨hx, hb, hr, hlk, hml, hown, hts, hE, hA, hnm⟩ := hc
  have hc : gC p s m args meth c G RJ28 "grow" cJ28_grow 9 (none) := ⟨hx, hb, hr, hlk, hml, hown, hts, hE, hA, hnm⟩
  intro n
  induction n with
  | zero => intro l5 l7 l8 S H locs ls kc ks C N _ _ _ _ _ hf; exact absurd hf (fun h => by cases h)
  | succ n ih =>
    intro l5 l7 l8 S H locs ls kc ks C N hkc hks hH hS hl hf
    rw [fJ28_grow_b145] at hf
    refine lv_iload (pc := 145) hx hb dJ28_grow_145 (lv_at hl 1 rfl) ?_
    refine lv_iload (pc := 147) hx hb dJ28_grow_147 (lv_at hl 2 rfl) ?_
    refine lv_icmp_ge (pc := 149) (tgt := 164) hx hb dJ28_grow_149 (by decide) (fun c1 => ?_) (fun c1 => ?_)
    · rw [if_pos c1] at hf
      exact g_vret (pc := 164) hx hb hr hlk hH hS hkc hks hf dJ28_grow_164
    · rw [if_neg c1] at hf
      refine g_aload (pc := 152) (o := l5) hx hb dJ28_grow_152 (lv_at hl 0 rfl) ?_
      refine lv_iload (pc := 154) hx hb dJ28_grow_154 (lv_at hl 1 rfl) ?_
      refine lv_null (pc := 156) hx hb dJ28_grow_156 ?_
      obtain ⟨a2, ea2, hf⟩ := bdo hf
      obtain ⟨S3, e3, hf⟩ := bdo hf
      refine g_aastN (pc := 157) (o := l5) (a := a2) hx hb hE hk hH hS ea2 e3 dJ28_grow_157 (fun H locs hH hS => ?_)
      refine lv_iinc (pc := 158) (v := l7 + (nI 1)) (lv' := [(7, .int (l7 + (nI 1))), (5, va_rf l5), (8, .int l8)]) hx hb dJ28_grow_158 hl (k := 1) rfl rfl (by decide) rfl (fun ls hl => ?_)
      refine lv_goto (pc := 161) (tgt := 145) hx hb dJ28_grow_161 (by decide) ?_
      exact ih l5 (l7 + (nI 1)) l8 S3 _ _ ls _ _ _ _ hkc hks hH hS (lv_sub hl [1, 0, 2] rfl) hf
def fJ28_grow_b96 (G : gG) (l0 : Nat) (l2 : Int32) (l3 : Int32) (l5 : Option Nat) (S : gS) : gO Unit :=
  bd (rdI S l0 18 1) fun v1 =>
  bd (rdI S l0 18 1) fun v2 =>
  bd (rdI S l0 18 1) fun v3 =>
  bd l5 fun a4 =>
  bd (cpyQ G S a4 v1 a4 (v2 + (l3 - l2)) (l2 - v3)) fun S5 =>
  bd (rdI S5 l0 18 1) fun v6 =>
  bd (rdI S5 l0 18 1) fun v7 =>
  bd (wr S5 l0 18 1 (.int (v7 + (l3 - l2)))) fun S8 =>
  fJ28_grow_b145 G FU l5 v6 (v7 + (l3 - l2)) S8
theorem wJ28_grow_b96 (hk : rOK Rp) (hc : gC p s m args meth c G RJ28 "grow" cJ28_grow 9 (none)) (l0 : Nat) (l2 : Int32) (l3 : Int32) (l5 : Option Nat) (S : gS) (H : Heap) (locs : List Loc) (ls : Array Slot) (kc ks C N : Nat) (hkc : kc + C ≤ mc) (hks : ks + N ≤ ms) (hH : hp G Rp S H) (hS : va_S G.2.2.2 s.heap H locs) (hl : lv_has ls 9 [(0, .ref l0), (2, .int l2), (3, .int l3), (5, va_rf l5)]) (hf : fJ28_grow_b96 G l0 l2 l3 l5 S = some (r, Sf, C, N)) : W p l e (gR 3 104 mc ms) s m args below meth c H locs kc ks (gQ below G Rp none Sf args s mc ms) (F0 m 96 ls []) := by
  obtain ⟨hx, hb, hr, hlk, hml, hown, hts, hE, hA, hnm⟩ := hc
  have hc : gC p s m args meth c G RJ28 "grow" cJ28_grow 9 (none) := ⟨hx, hb, hr, hlk, hml, hown, hts, hE, hA, hnm⟩
  unfold fJ28_grow_b96 at hf
  refine lv_iload_n (pc := 96) hx hb dJ28_grow_96 rfl (lv_at hl 2 rfl) ?_
  refine lv_iload_n (pc := 97) hx hb dJ28_grow_97 rfl (lv_at hl 1 rfl) ?_
  refine lv_isub (pc := 98) hx hb dJ28_grow_98 ?_
  refine lv_istore (pc := 99) (i := 6) (lv' := [(6, .int (l3 - l2)), (0, .ref l0), (2, .int l2), (3, .int l3), (5, va_rf l5)]) hx hb dJ28_grow_99 hl (by decide) (by simp [va_rf_cat, cat_i, cat_j, cat_r] <;> rfl) (fun ls hl => ?_)
  refine g_aload (pc := 101) (o := l5) hx hb dJ28_grow_101 (lv_at hl 4 rfl) ?_
  refine lv_aload_n (pc := 103) hx hb dJ28_grow_103 rfl (lv_at hl 1 rfl) ?_
  obtain ⟨v1, e1, hf⟩ := bdo hf
  refine g_get (pc := 104) (o := (some l0)) (a := l0) (ci := 18) (k := 1) (v := .int v1) (C := RJ28) (T := TJ28) (N := 3) hx hb hts hown hE hk hH in_J28 rfl (by decide) (hts _ q2393) (fun _ h9 => h9) rfl (rdI_o e1) dJ28_grow_104 ?_
  refine g_aload (pc := 107) (o := l5) hx hb dJ28_grow_107 (lv_at hl 4 rfl) ?_
  refine lv_aload_n (pc := 109) hx hb dJ28_grow_109 rfl (lv_at hl 1 rfl) ?_
  obtain ⟨v2, e2, hf⟩ := bdo hf
  refine g_get (pc := 110) (o := (some l0)) (a := l0) (ci := 18) (k := 1) (v := .int v2) (C := RJ28) (T := TJ28) (N := 3) hx hb hts hown hE hk hH in_J28 rfl (by decide) (hts _ q2393) (fun _ h9 => h9) rfl (rdI_o e2) dJ28_grow_110 ?_
  refine lv_iload (pc := 113) hx hb dJ28_grow_113 (lv_at hl 0 rfl) ?_
  refine lv_iadd (pc := 115) hx hb dJ28_grow_115 ?_
  refine lv_iload_n (pc := 116) hx hb dJ28_grow_116 rfl (lv_at hl 2 rfl) ?_
  refine lv_aload_n (pc := 117) hx hb dJ28_grow_117 rfl (lv_at hl 1 rfl) ?_
  obtain ⟨v3, e3, hf⟩ := bdo hf
  refine g_get (pc := 118) (o := (some l0)) (a := l0) (ci := 18) (k := 1) (v := .int v3) (C := RJ28) (T := TJ28) (N := 3) hx hb hts hown hE hk hH in_J28 rfl (by decide) (hts _ q2393) (fun _ h9 => h9) rfl (rdI_o e3) dJ28_grow_118 ?_
  refine lv_isub (pc := 121) hx hb dJ28_grow_121 ?_
  obtain ⟨a4, ea4, hf⟩ := bdo hf
  obtain ⟨S5, e5, hf⟩ := bdo hf
  refine g_cpyQ (pc := 122) (o0 := l5) (a0 := a4) (o := l5) (a := a4) hx hb (hml.trans hl.1.symm) hts hown hE hk hH hS q2118 q520 q519 q116 ea4 ea4 e5 (Nat.le_of_ble_eq_true rfl) (by simp [gR, va_rf_cat, cat_i, cat_j, cat_r]) dJ28_grow_122 (fun H locs hH hS => ?_)
  refine lv_aload_n (pc := 125) hx hb dJ28_grow_125 rfl (lv_at hl 1 rfl) ?_
  obtain ⟨v6, e6, hf⟩ := bdo hf
  refine g_get (pc := 126) (o := (some l0)) (a := l0) (ci := 18) (k := 1) (v := .int v6) (C := RJ28) (T := TJ28) (N := 3) hx hb hts hown hE hk hH in_J28 rfl (by decide) (hts _ q2393) (fun _ h9 => h9) rfl (rdI_o e6) dJ28_grow_126 ?_
  refine lv_istore (pc := 129) (i := 7) (lv' := [(7, .int v6), (6, .int (l3 - l2)), (0, .ref l0), (2, .int l2), (3, .int l3), (5, va_rf l5)]) hx hb dJ28_grow_129 hl (by decide) rfl (fun ls hl => ?_)
  refine lv_aload_n (pc := 131) hx hb dJ28_grow_131 rfl (lv_at hl 2 rfl) ?_
  refine lv_dup (pc := 132) hx hb dJ28_grow_132 rfl ?_
  obtain ⟨v7, e7, hf⟩ := bdo hf
  refine g_get (pc := 133) (o := (some l0)) (a := l0) (ci := 18) (k := 1) (v := .int v7) (C := RJ28) (T := TJ28) (N := 3) hx hb hts hown hE hk hH in_J28 rfl (by decide) (hts _ q2393) (fun _ h9 => h9) rfl (rdI_o e7) dJ28_grow_133 ?_
  refine lv_iload (pc := 136) hx hb dJ28_grow_136 (lv_at hl 1 rfl) ?_
  refine lv_iadd (pc := 138) hx hb dJ28_grow_138 ?_
  refine lv_dup_x1 (pc := 139) hx hb dJ28_grow_139 rfl rfl ?_
  obtain ⟨S8, e8, hf⟩ := bdo hf
  refine g_put (pc := 140) (o := (some l0)) (a := l0) (ci := 18) (k := 1) (v := .int (v7 + (l3 - l2))) (C := RJ28) (T := TJ28) (N := 3) (ty := .int) hx hb hts hown hE hk hH hS rfl in_J28 tyJ28_ok nmJ28 rfl (by decide) (hts _ q2393) (fun _ h9 => h9) rfl rfl rfl rfl rfl e8 dJ28_grow_140 (fun H locs hH hS => ?_)
  refine lv_istore (pc := 143) (i := 8) (lv' := [(8, .int (v7 + (l3 - l2))), (7, .int v6), (6, .int (l3 - l2)), (0, .ref l0), (2, .int l2), (3, .int l3), (5, va_rf l5)]) hx hb dJ28_grow_143 hl (by decide) rfl (fun ls hl => ?_)
  exact wJ28_grow_b145 hk hc FU l5 v6 (v7 + (l3 - l2)) S8 _ _ ls _ _ _ _ hkc hks hH hS (lv_sub hl [6, 1, 0] rfl) hf
def fJ28_grow_b49 (G : gG) (l0 : Nat) (l2 : Int32) (l3 : Int32) (S : gS) : gO Unit :=
  bd (rdR S l0 18 0) fun v1 =>
  gb (fJ19_copyOf_2 G v1 l3 S) fun v2 S2 =>
  bd (wr S2 l0 18 0 (va_rf v2)) fun S3 =>
  bd (rdI S3 l0 18 2) fun v4 =>
  bd (rdI S3 l0 18 1) fun v5 =>
  if v4 < v5 then
    fJ28_grow_b96 G l0 l2 l3 v2 S3
  else
    bd (rdI S3 l0 18 2) fun v7 =>
    bd (rdI S3 l0 18 1) fun v8 =>
    if v7 = v8 then
      bd (rdI S3 l0 18 1) fun v10 =>
      bd v2 fun a11 =>
      bd (rdAq S3 a11 5 v10) fun v12 =>
      if v12 = none then
        some ((), S3, 0, 0)
      else
        fJ28_grow_b96 G l0 l2 l3 v2 S3
    else
      some ((), S3, 0, 0)
theorem wJ28_grow_b49 (hk : rOK Rp) (hc : gC p s m args meth c G RJ28 "grow" cJ28_grow 9 (none)) (l0 : Nat) (l2 : Int32) (l3 : Int32) (S : gS) (H : Heap) (locs : List Loc) (ls : Array Slot) (kc ks C N : Nat) (hkc : kc + C ≤ mc) (hks : ks + N ≤ ms) (hH : hp G Rp S H) (hS : va_S G.2.2.2 s.heap H locs) (hl : lv_has ls 9 [(0, .ref l0), (2, .int l2), (3, .int l3)]) (hf : fJ28_grow_b49 G l0 l2 l3 S = some (r, Sf, C, N)) : W p l e (gR 3 104 mc ms) s m args below meth c H locs kc ks (gQ below G Rp none Sf args s mc ms) (F0 m 49 ls []) := by
  obtain ⟨hx, hb, hr, hlk, hml, hown, hts, hE, hA, hnm⟩ := hc
  have hc : gC p s m args meth c G RJ28 "grow" cJ28_grow 9 (none) := ⟨hx, hb, hr, hlk, hml, hown, hts, hE, hA, hnm⟩
  unfold fJ28_grow_b49 at hf
  refine lv_aload_n (pc := 49) hx hb dJ28_grow_49 rfl (lv_at hl 0 rfl) ?_
  refine lv_aload_n (pc := 50) hx hb dJ28_grow_50 rfl (lv_at hl 0 rfl) ?_
  obtain ⟨v1, e1, hf⟩ := bdo hf
  refine g_get (pc := 51) (o := (some l0)) (a := l0) (ci := 18) (k := 0) (v := va_rf v1) (C := RJ28) (T := TJ28) (N := 3) hx hb hts hown hE hk hH in_J28 rfl (by decide) (hts _ q2390) (fun _ h9 => h9) rfl (rdR_o e1) dJ28_grow_51 ?_
  refine lv_iload_n (pc := 54) hx hb dJ28_grow_54 rfl (lv_at hl 2 rfl) ?_
  obtain ⟨v2, S2, c2, n2, c2_2, n2_2, e2, hf, hC2, hN2⟩ := gbo hf
  refine g_callS (pc := 55) (As := [va_rf v1, .int l3]) (rest := [.ref l0]) (st1 := [va_rf v2, .ref l0]) hc (mJ19_copyOf_2 hk (l0 := v1) (l1 := l3) e2) (va_cwS 2 hts (lw_S q2422 q1057 q122 q1058) rfl rfl rfl jhdJ19_copyOf_2 ⟨Nat.le_of_ble_eq_true rfl, Nat.le_of_ble_eq_true rfl⟩) rfl hl.1 rfl rfl (lv_room (Nat.le_of_ble_eq_true rfl)) dJ28_grow_55 hH hS (by omega) (by omega) (fun H locs hH hS => ?_)
  have hkc : kc + c2 + c2_2 ≤ mc := by omega
  have hks : ks + n2 + n2_2 ≤ ms := by omega
  refine lv_dup_x1 (pc := 58) hx hb dJ28_grow_58 (va_rf_cat _) rfl ?_
  obtain ⟨S3, e3, hf⟩ := bdo hf
  refine g_put (pc := 59) (o := (some l0)) (a := l0) (ci := 18) (k := 0) (v := va_rf v2) (C := RJ28) (T := TJ28) (N := 3) (ty := tyJ28 0) hx hb hts hown hE hk hH hS rfl in_J28 tyJ28_ok nmJ28 rfl (by decide) (hts _ q2390) (fun _ h9 => h9) rfl rfl (nar_ra _ _) (fit_ra _ _) rfl e3 dJ28_grow_59 (fun H locs hH hS => ?_)
  refine g_astore (pc := 62) (i := 5) (o := v2) (lv' := [(5, va_rf v2), (0, .ref l0), (2, .int l2), (3, .int l3)]) hx hb dJ28_grow_62 hl (by decide) rfl (fun ls hl => ?_)
  refine lv_aload_n (pc := 64) hx hb dJ28_grow_64 rfl (lv_at hl 1 rfl) ?_
  obtain ⟨v4, e4, hf⟩ := bdo hf
  refine g_get (pc := 65) (o := (some l0)) (a := l0) (ci := 18) (k := 2) (v := .int v4) (C := RJ28) (T := TJ28) (N := 3) hx hb hts hown hE hk hH in_J28 rfl (by decide) (hts _ q2394) (fun _ h9 => h9) rfl (rdI_o e4) dJ28_grow_65 ?_
  refine lv_aload_n (pc := 68) hx hb dJ28_grow_68 rfl (lv_at hl 1 rfl) ?_
  obtain ⟨v5, e5, hf⟩ := bdo hf
  refine g_get (pc := 69) (o := (some l0)) (a := l0) (ci := 18) (k := 1) (v := .int v5) (C := RJ28) (T := TJ28) (N := 3) hx hb hts hown hE hk hH in_J28 rfl (by decide) (hts _ q2393) (fun _ h9 => h9) rfl (rdI_o e5) dJ28_grow_69 ?_
  refine lv_icmp_lt (pc := 72) (tgt := 96) hx hb dJ28_grow_72 (by decide) (fun c6 => ?_) (fun c6 => ?_)
  · rw [if_pos c6] at hf
    exact wJ28_grow_b96 hk hc l0 l2 l3 v2 S3 _ _ ls _ _ _ _ hkc hks hH hS (lv_sub hl [1, 2, 3, 0] rfl) hf
  · rw [if_neg c6] at hf
    refine lv_aload_n (pc := 75) hx hb dJ28_grow_75 rfl (lv_at hl 1 rfl) ?_
    obtain ⟨v7, e7, hf⟩ := bdo hf
    refine g_get (pc := 76) (o := (some l0)) (a := l0) (ci := 18) (k := 2) (v := .int v7) (C := RJ28) (T := TJ28) (N := 3) hx hb hts hown hE hk hH in_J28 rfl (by decide) (hts _ q2394) (fun _ h9 => h9) rfl (rdI_o e7) dJ28_grow_76 ?_
    refine lv_aload_n (pc := 79) hx hb dJ28_grow_79 rfl (lv_at hl 1 rfl) ?_
    obtain ⟨v8, e8, hf⟩ := bdo hf
    refine g_get (pc := 80) (o := (some l0)) (a := l0) (ci := 18) (k := 1) (v := .int v8) (C := RJ28) (T := TJ28) (N := 3) hx hb hts hown hE hk hH in_J28 rfl (by decide) (hts _ q2393) (fun _ h9 => h9) rfl (rdI_o e8) dJ28_grow_80 ?_
    refine lv_icmp_ne (pc := 83) (tgt := 164) hx hb dJ28_grow_83 (by decide) (fun c9 => ?_) (fun c9 => ?_)
    · rw [if_neg c9] at hf
      exact g_vret (pc := 164) hx hb hr hlk hH hS hkc hks hf dJ28_grow_164
    · rw [if_pos c9] at hf
      refine g_aload (pc := 86) (o := v2) hx hb dJ28_grow_86 (lv_at hl 0 rfl) ?_
      refine lv_aload_n (pc := 88) hx hb dJ28_grow_88 rfl (lv_at hl 1 rfl) ?_
      obtain ⟨v10, e10, hf⟩ := bdo hf
      refine g_get (pc := 89) (o := (some l0)) (a := l0) (ci := 18) (k := 1) (v := .int v10) (C := RJ28) (T := TJ28) (N := 3) hx hb hts hown hE hk hH in_J28 rfl (by decide) (hts _ q2393) (fun _ h9 => h9) rfl (rdI_o e10) dJ28_grow_89 ?_
      obtain ⟨a11, ea11, hf⟩ := bdo hf
      obtain ⟨v12, e12, hf⟩ := bdo hf
      refine g_aald (pc := 92) (o := v2) (a := a11) (t := 5) (t0 := 5) hx hb hE hk hH rfl ea11 e12 dJ28_grow_92 ?_
      refine g_ifnull (pc := 93) (o := v12) (tgt := 164) hx hb dJ28_grow_93 (by decide) (fun c13 => ?_) (fun c13 => ?_)
      · rw [if_pos c13] at hf
        exact g_vret (pc := 164) hx hb hr hlk hH hS hkc hks hf dJ28_grow_164
      · rw [if_neg c13] at hf
        exact wJ28_grow_b96 hk hc l0 l2 l3 v2 S3 _ _ ls _ _ _ _ hkc hks hH hS (lv_sub hl [1, 2, 3, 0] rfl) hf
def fJ28_grow_b41 (G : gG) (l0 : Nat) (l1 : Int32) (l2 : Int32) (l4 : Int32) (S : gS) : gO Unit :=
  bd (chk S l0 18) fun _ =>
  gb (fJ28_newCapacity G l0 l1 l4 S) fun v1 S1 =>
  fJ28_grow_b49 G l0 l2 v1 S1
theorem wJ28_grow_b41 (hk : rOK Rp) (hc : gC p s m args meth c G RJ28 "grow" cJ28_grow 9 (none)) (l0 : Nat) (l1 : Int32) (l2 : Int32) (l4 : Int32) (S : gS) (H : Heap) (locs : List Loc) (ls : Array Slot) (kc ks C N : Nat) (hkc : kc + C ≤ mc) (hks : ks + N ≤ ms) (hH : hp G Rp S H) (hS : va_S G.2.2.2 s.heap H locs) (hl : lv_has ls 9 [(0, .ref l0), (1, .int l1), (2, .int l2), (4, .int l4)]) (hf : fJ28_grow_b41 G l0 l1 l2 l4 S = some (r, Sf, C, N)) : W p l e (gR 3 104 mc ms) s m args below meth c H locs kc ks (gQ below G Rp none Sf args s mc ms) (F0 m 41 ls []) := by
  obtain ⟨hx, hb, hr, hlk, hml, hown, hts, hE, hA, hnm⟩ := hc
  have hc : gC p s m args meth c G RJ28 "grow" cJ28_grow 9 (none) := ⟨hx, hb, hr, hlk, hml, hown, hts, hE, hA, hnm⟩
  unfold fJ28_grow_b41 at hf
  refine lv_aload_n (pc := 41) hx hb dJ28_grow_41 rfl (lv_at hl 0 rfl) ?_
  refine lv_iload_n (pc := 42) hx hb dJ28_grow_42 rfl (lv_at hl 1 rfl) ?_
  refine lv_iload (pc := 43) hx hb dJ28_grow_43 (lv_at hl 3 rfl) ?_
  obtain ⟨_, ek1, hf⟩ := bdo hf
  obtain ⟨v1, S1, c1, n1, c2_1, n2_1, e1, hf, hC1, hN1⟩ := gbo hf
  refine g_callV (pc := 45) (o := (some l0)) (b := l0) (As := [.int l1, .int l4]) (rest := []) (st1 := [.int v1]) hc (mJ28_newCapacity hk (l0 := l0) (l1 := l1) (l2 := l4) e1) (cwV 2 hts (lw_V q2417 q2419 qs40 q137 q2420) rfl rfl rfl jhdJ28_newCapacity ⟨Nat.le_of_ble_eq_true rfl, Nat.le_of_ble_eq_true rfl⟩) (g_recv hE hk hH (ci := 18) (q := (RJ28, TJ28, 3)) rfl (chk_o ek1).choose_spec) rfl rfl hl.1 rfl rfl (lv_room (Nat.le_of_ble_eq_true rfl)) dJ28_grow_45 hH hS (by omega) (by omega) (fun H locs hH hS => ?_)
  have hkc : kc + c1 + c2_1 ≤ mc := by omega
  have hks : ks + n1 + n2_1 ≤ ms := by omega
  refine lv_istore_n (pc := 48) (i := 3) (lv' := [(3, .int v1), (0, .ref l0), (1, .int l1), (2, .int l2), (4, .int l4)]) hx hb dJ28_grow_48 rfl hl (by decide) rfl (fun ls hl => ?_)
  exact wJ28_grow_b49 hk hc l0 l2 v1 S1 _ _ ls _ _ _ _ hkc hks hH hS (lv_sub hl [1, 3, 0] rfl) hf
def fJ28_grow_b21 (G : gG) (l0 : Nat) (l1 : Int32) (l2 : Int32) (t0 : Int32) (S : gS) : gO Unit :=
  if t0 < l1 then
    fJ28_grow_b41 G l0 l1 l2 t0 S
  else
    if ((l2 + t0) - (nI 2147483639)) ≤ 0 then
      fJ28_grow_b49 G l0 l2 (l2 + t0) S
    else
      fJ28_grow_b41 G l0 l1 l2 t0 S
theorem wJ28_grow_b21 (hk : rOK Rp) (hc : gC p s m args meth c G RJ28 "grow" cJ28_grow 9 (none)) (l0 : Nat) (l1 : Int32) (l2 : Int32) (t0 : Int32) (S : gS) (H : Heap) (locs : List Loc) (ls : Array Slot) (kc ks C N : Nat) (hkc : kc + C ≤ mc) (hks : ks + N ≤ ms) (hH : hp G Rp S H) (hS : va_S G.2.2.2 s.heap H locs) (hl : lv_has ls 9 [(0, .ref l0), (1, .int l1), (2, .int l2)]) (hf : fJ28_grow_b21 G l0 l1 l2 t0 S = some (r, Sf, C, N)) : W p l e (gR 3 104 mc ms) s m args below meth c H locs kc ks (gQ below G Rp none Sf args s mc ms) (F0 m 21 ls [.int t0]) := by
  obtain ⟨hx, hb, hr, hlk, hml, hown, hts, hE, hA, hnm⟩ := hc
  have hc : gC p s m args meth c G RJ28 "grow" cJ28_grow 9 (none) := ⟨hx, hb, hr, hlk, hml, hown, hts, hE, hA, hnm⟩
  unfold fJ28_grow_b21 at hf
  refine lv_istore (pc := 21) (i := 4) (lv' := [(4, .int t0), (0, .ref l0), (1, .int l1), (2, .int l2)]) hx hb dJ28_grow_21 hl (by decide) rfl (fun ls hl => ?_)
  refine lv_iload (pc := 23) hx hb dJ28_grow_23 (lv_at hl 0 rfl) ?_
  refine lv_iload_n (pc := 25) hx hb dJ28_grow_25 rfl (lv_at hl 2 rfl) ?_
  refine lv_icmp_lt (pc := 26) (tgt := 41) hx hb dJ28_grow_26 (by decide) (fun c1 => ?_) (fun c1 => ?_)
  · rw [if_pos c1] at hf
    exact wJ28_grow_b41 hk hc l0 l1 l2 t0 S _ _ ls _ _ _ _ hkc hks hH hS (lv_sub hl [1, 2, 3, 0] rfl) hf
  · rw [if_neg c1] at hf
    refine lv_iload_n (pc := 29) hx hb dJ28_grow_29 rfl (lv_at hl 3 rfl) ?_
    refine lv_iload (pc := 30) hx hb dJ28_grow_30 (lv_at hl 0 rfl) ?_
    refine lv_iadd (pc := 32) hx hb dJ28_grow_32 ?_
    refine lv_dup (pc := 33) hx hb dJ28_grow_33 rfl ?_
    refine lv_istore_n (pc := 34) (i := 3) (lv' := [(3, .int (l2 + t0)), (4, .int t0), (0, .ref l0), (1, .int l1), (2, .int l2)]) hx hb dJ28_grow_34 rfl hl (by decide) rfl (fun ls hl => ?_)
    refine lv_ldc (pc := 35) (v := nI 2147483639) hx hb hown (hts _ q2416) dJ28_grow_35 ?_
    refine lv_isub (pc := 37) hx hb dJ28_grow_37 ?_
    refine lv_if_le (pc := 38) (tgt := 49) hx hb dJ28_grow_38 (by decide) (fun c2 => ?_) (fun c2 => ?_)
    · rw [if_pos c2] at hf
      exact wJ28_grow_b49 hk hc l0 l2 (l2 + t0) S _ _ ls _ _ _ _ hkc hks hH hS (lv_sub hl [2, 4, 0] rfl) hf
    · rw [if_neg c2] at hf
      exact wJ28_grow_b41 hk hc l0 l1 l2 t0 S _ _ ls _ _ _ _ hkc hks hH hS (lv_sub hl [2, 3, 4, 1] rfl) hf
def fJ28_grow (G : gG) (l0 : Nat) (l1 : Int32) (S : gS) : gO Unit :=
  bd (rdR S l0 18 0) fun v1 =>
  bd v1 fun a2 =>
  bd (lenQ G S a2) fun v3 =>
  if (nI 64) ≤ v3 then
    fJ28_grow_b21 G l0 l1 v3 (v3 >>> ((nI 1) &&& 31)) S
  else
    fJ28_grow_b21 G l0 l1 v3 (v3 + (nI 2)) S
theorem wJ28_grow_b0 (hk : rOK Rp) (hc : gC p s m args meth c G RJ28 "grow" cJ28_grow 9 (none)) (l0 : Nat) (l1 : Int32) (S : gS) (H : Heap) (locs : List Loc) (ls : Array Slot) (kc ks C N : Nat) (hkc : kc + C ≤ mc) (hks : ks + N ≤ ms) (hH : hp G Rp S H) (hS : va_S G.2.2.2 s.heap H locs) (hl : lv_has ls 9 [(0, .ref l0), (1, .int l1)]) (hf : fJ28_grow G l0 l1 S = some (r, Sf, C, N)) : W p l e (gR 3 104 mc ms) s m args below meth c H locs kc ks (gQ below G Rp none Sf args s mc ms) (F0 m 0 ls []) := by
  obtain ⟨hx, hb, hr, hlk, hml, hown, hts, hE, hA, hnm⟩ := hc
  have hc : gC p s m args meth c G RJ28 "grow" cJ28_grow 9 (none) := ⟨hx, hb, hr, hlk, hml, hown, hts, hE, hA, hnm⟩
  unfold fJ28_grow at hf
  refine lv_aload_n (pc := 0) hx hb dJ28_grow_0 rfl (lv_at hl 0 rfl) ?_
  obtain ⟨v1, e1, hf⟩ := bdo hf
  refine g_get (pc := 1) (o := (some l0)) (a := l0) (ci := 18) (k := 0) (v := va_rf v1) (C := RJ28) (T := TJ28) (N := 3) hx hb hts hown hE hk hH in_J28 rfl (by decide) (hts _ q2390) (fun _ h9 => h9) rfl (rdR_o e1) dJ28_grow_1 ?_
  obtain ⟨a2, ea2, hf⟩ := bdo hf
  obtain ⟨v3, e3, hf⟩ := bdo hf
  refine g_lenQ (pc := 4) (o := v1) (a := a2) hx hb hE hk hH hS ea2 e3 dJ28_grow_4 ?_
  refine lv_istore_n (pc := 5) (i := 2) (lv' := [(2, .int v3), (0, .ref l0), (1, .int l1)]) hx hb dJ28_grow_5 rfl hl (by decide) rfl (fun ls hl => ?_)
  refine lv_iload_n (pc := 6) hx hb dJ28_grow_6 rfl (lv_at hl 0 rfl) ?_
  refine lv_bipush (pc := 7) (v := nI 64) hx hb dJ28_grow_7 jgkb64 ?_
  refine lv_icmp_ge (pc := 9) (tgt := 18) hx hb dJ28_grow_9 (by decide) (fun c4 => ?_) (fun c4 => ?_)
  · rw [if_pos c4] at hf
    refine lv_iload_n (pc := 18) hx hb dJ28_grow_18 rfl (lv_at hl 0 rfl) ?_
    refine lv_iconst (pc := 19) (v := nI 1) hx hb dJ28_grow_19 rfl ?_
    refine lv_ishr (pc := 20) hx hb dJ28_grow_20 ?_
    exact wJ28_grow_b21 hk hc l0 l1 v3 (v3 >>> ((nI 1) &&& 31)) S _ _ ls _ _ _ _ hkc hks hH hS (lv_sub hl [1, 2, 0] rfl) hf
  · rw [if_neg c4] at hf
    refine lv_iload_n (pc := 12) hx hb dJ28_grow_12 rfl (lv_at hl 0 rfl) ?_
    refine lv_iconst (pc := 13) (v := nI 2) hx hb dJ28_grow_13 rfl ?_
    refine lv_iadd (pc := 14) hx hb dJ28_grow_14 ?_
    refine lv_goto (pc := 15) (tgt := 21) hx hb dJ28_grow_15 (by decide) ?_
    exact wJ28_grow_b21 hk hc l0 l1 v3 (v3 + (nI 2)) S _ _ ls _ _ _ _ hkc hks hH hS (lv_sub hl [1, 2, 0] rfl) hf
theorem mJ28_grow {l : Launch} {G : gG} {Rp : gM → gM → Nat → Prop} (hk : rOK Rp) {S S2 : gS} {r2 : Unit} {C N : Nat} {l0 : Nat} {l1 : Int32} (hf : fJ28_grow G l0 l1 S = some (r2, S2, C, N)) : gMet l yJ28_grow cJ28_grow 9 (none) 3 104 G Rp [.ref l0, .int l1] S none S2 C N := by
  refine g_start (by decide) (Nat.le_of_ble_eq_true rfl) (fun p e s m args below meth c ls hc hl hH => ?_)
  have hl : lv_has ls 9 [(0, .ref l0), (1, .int l1)] := hl
  exact wJ28_grow_b0 hk hc l0 l1 S _ _ ls 0 0 C N (by omega) (by omega) hH va_S.rf (lv_sub hl [0, 1] rfl) hf
end
section
variable {r : Unit} {Sf : gS}
def fJ28_addLast (G : gG) (l0 : Nat) (l1 : Option Nat) (S : gS) : gO Unit :=
  if l1 = none then
    none
  else
    bd (rdR S l0 18 0) fun v2 =>
    bd (rdI S l0 18 2) fun v3 =>
    bd v2 fun a4 =>
    bd l1 fun a6 =>
    bd (chkA G S a6) fun _ =>
    bd (wrAq S a4 5 v3 (some a6)) fun S5 =>
    bd (rdI S5 l0 18 1) fun v8 =>
    bd (rdI S5 l0 18 2) fun v9 =>
    bd (lenQ G S5 a4) fun v10 =>
    gb (fJ28_inc G v9 v10 S5) fun v11 S11 =>
    bd (wr S11 l0 18 2 (.int v11)) fun S12 =>
    if v8 = v11 then
      bd (chk S12 l0 18) fun _ =>
      gb (fJ28_grow G l0 (nI 1) S12) fun _ S14 =>
      some ((), S14, 0, 0)
    else
      some ((), S12, 0, 0)
theorem wJ28_addLast_b0 (hk : rOK Rp) (hc : gC p s m args meth c G RJ28 "addLast" cJ28_addLast 3 (none)) (l0 : Nat) (l1 : Option Nat) (S : gS) (H : Heap) (locs : List Loc) (ls : Array Slot) (kc ks C N : Nat) (hkc : kc + C ≤ mc) (hks : ks + N ≤ ms) (hH : hp G Rp S H) (hS : va_S G.2.2.2 s.heap H locs) (hl : lv_has ls 3 [(0, .ref l0), (1, va_rf l1)]) (hf : fJ28_addLast G l0 l1 S = some (r, Sf, C, N)) : W p l e (gR 4 132 mc ms) s m args below meth c H locs kc ks (gQ below G Rp none Sf args s mc ms) (F0 m 0 ls []) := by
  obtain ⟨hx, hb, hr, hlk, hml, hown, hts, hE, hA, hnm⟩ := hc
  have hc : gC p s m args meth c G RJ28 "addLast" cJ28_addLast 3 (none) := ⟨hx, hb, hr, hlk, hml, hown, hts, hE, hA, hnm⟩
  unfold fJ28_addLast at hf
  refine g_aload_n (pc := 0) (o := l1) hx hb dJ28_addLast_0 rfl (lv_at hl 1 rfl) ?_
  refine g_ifnonnull (pc := 1) (o := l1) (tgt := 12) hx hb dJ28_addLast_1 (by decide) (fun c1 => ?_) (fun c1 => ?_)
  · rw [if_neg c1] at hf
    refine lv_aload_n (pc := 12) hx hb dJ28_addLast_12 rfl (lv_at hl 0 rfl) ?_
    obtain ⟨v2, e2, hf⟩ := bdo hf
    refine g_get (pc := 13) (o := (some l0)) (a := l0) (ci := 18) (k := 0) (v := va_rf v2) (C := RJ28) (T := TJ28) (N := 3) hx hb hts hown hE hk hH in_J28 rfl (by decide) (hts _ q2390) (fun _ h9 => h9) rfl (rdR_o e2) dJ28_addLast_13 ?_
    refine g_astore_n (pc := 16) (i := 2) (o := v2) (lv' := [(2, va_rf v2), (0, .ref l0), (1, va_rf l1)]) hx hb dJ28_addLast_16 rfl hl (by decide) (by simp [va_rf_cat, cat_i, cat_j, cat_r] <;> rfl) (fun ls hl => ?_)
    refine g_aload_n (pc := 17) (o := v2) hx hb dJ28_addLast_17 rfl (lv_at hl 0 rfl) ?_
    refine lv_aload_n (pc := 18) hx hb dJ28_addLast_18 rfl (lv_at hl 1 rfl) ?_
    obtain ⟨v3, e3, hf⟩ := bdo hf
    refine g_get (pc := 19) (o := (some l0)) (a := l0) (ci := 18) (k := 2) (v := .int v3) (C := RJ28) (T := TJ28) (N := 3) hx hb hts hown hE hk hH in_J28 rfl (by decide) (hts _ q2394) (fun _ h9 => h9) rfl (rdI_o e3) dJ28_addLast_19 ?_
    refine g_aload_n (pc := 22) (o := l1) hx hb dJ28_addLast_22 rfl (lv_at hl 2 rfl) ?_
    obtain ⟨a4, ea4, hf⟩ := bdo hf
    obtain ⟨a6, ea6, hf⟩ := bdo hf
    obtain ⟨_, e7, hf⟩ := bdo hf
    obtain ⟨S5, e5, hf⟩ := bdo hf
    refine g_aastM (pc := 23) (o := v2) (a := a4) (vo := l1) (v := a6) hx hb hE hk hH hS ea4 ea6 (chkA_o e7) e5 dJ28_addLast_23 (fun H locs hH hS => ?_)
    refine lv_aload_n (pc := 24) hx hb dJ28_addLast_24 rfl (lv_at hl 1 rfl) ?_
    obtain ⟨v8, e8, hf⟩ := bdo hf
    refine g_get (pc := 25) (o := (some l0)) (a := l0) (ci := 18) (k := 1) (v := .int v8) (C := RJ28) (T := TJ28) (N := 3) hx hb hts hown hE hk hH in_J28 rfl (by decide) (hts _ q2393) (fun _ h9 => h9) rfl (rdI_o e8) dJ28_addLast_25 ?_
    refine lv_aload_n (pc := 28) hx hb dJ28_addLast_28 rfl (lv_at hl 1 rfl) ?_
    refine lv_aload_n (pc := 29) hx hb dJ28_addLast_29 rfl (lv_at hl 1 rfl) ?_
    obtain ⟨v9, e9, hf⟩ := bdo hf
    refine g_get (pc := 30) (o := (some l0)) (a := l0) (ci := 18) (k := 2) (v := .int v9) (C := RJ28) (T := TJ28) (N := 3) hx hb hts hown hE hk hH in_J28 rfl (by decide) (hts _ q2394) (fun _ h9 => h9) rfl (rdI_o e9) dJ28_addLast_30 ?_
    refine g_aload_n (pc := 33) (o := v2) hx hb dJ28_addLast_33 rfl (lv_at hl 0 rfl) ?_
    obtain ⟨v10, e10, hf⟩ := bdo hf
    refine g_lenQ (pc := 34) (o := v2) (a := a4) hx hb hE hk hH hS ea4 e10 dJ28_addLast_34 ?_
    obtain ⟨v11, S11, c11, n11, c2_11, n2_11, e11, hf, hC11, hN11⟩ := gbo hf
    refine g_callS (pc := 35) (As := [.int v9, .int v10]) (rest := [.ref l0, .int v8]) (st1 := [.int v11, .ref l0, .int v8]) hc (mJ28_inc hk (l0 := v9) (l1 := v10) e11) (va_cwS 2 hts (lw_S q1511 q1470 q137 q1471) rfl rfl rfl jhdJ28_inc ⟨Nat.le_of_ble_eq_true rfl, Nat.le_of_ble_eq_true rfl⟩) rfl hl.1 rfl rfl (lv_room (Nat.le_of_ble_eq_true rfl)) dJ28_addLast_35 hH hS (by omega) (by omega) (fun H locs hH hS => ?_)
    have hkc : kc + c11 + c2_11 ≤ mc := by omega
    have hks : ks + n11 + n2_11 ≤ ms := by omega
    refine lv_dup_x1 (pc := 38) hx hb dJ28_addLast_38 rfl rfl ?_
    obtain ⟨S12, e12, hf⟩ := bdo hf
    refine g_put (pc := 39) (o := (some l0)) (a := l0) (ci := 18) (k := 2) (v := .int v11) (C := RJ28) (T := TJ28) (N := 3) (ty := .int) hx hb hts hown hE hk hH hS rfl in_J28 tyJ28_ok nmJ28 rfl (by decide) (hts _ q2394) (fun _ h9 => h9) rfl rfl rfl rfl rfl e12 dJ28_addLast_39 (fun H locs hH hS => ?_)
    refine lv_icmp_ne (pc := 42) (tgt := 50) hx hb dJ28_addLast_42 (by decide) (fun c13 => ?_) (fun c13 => ?_)
    · rw [if_neg c13] at hf
      exact g_vret (pc := 50) hx hb hr hlk hH hS hkc hks hf dJ28_addLast_50
    · rw [if_pos c13] at hf
      refine lv_aload_n (pc := 45) hx hb dJ28_addLast_45 rfl (lv_at hl 1 rfl) ?_
      refine lv_iconst (pc := 46) (v := nI 1) hx hb dJ28_addLast_46 rfl ?_
      obtain ⟨_, ek14, hf⟩ := bdo hf
      obtain ⟨_, S14, c14, n14, c2_14, n2_14, e14, hf, hC14, hN14⟩ := gbo hf
      refine g_callV (pc := 47) (o := (some l0)) (b := l0) (As := [.int (nI 1)]) (rest := []) (st1 := []) hc (mJ28_grow hk (l0 := l0) (l1 := (nI 1)) e14) (cwV 1 hts (lw_V q2412 q2414 qs39 q137 q2415) rfl rfl rfl jhdJ28_grow ⟨Nat.le_of_ble_eq_true rfl, Nat.le_of_ble_eq_true rfl⟩) (g_recv hE hk hH (ci := 18) (q := (RJ28, TJ28, 3)) rfl (chk_o ek14).choose_spec) rfl rfl hl.1 rfl rfl (lv_room (Nat.le_of_ble_eq_true rfl)) dJ28_addLast_47 hH hS (by omega) (by omega) (fun H locs hH hS => ?_)
      have hkc : kc + c11 + c14 + c2_14 ≤ mc := by omega
      have hks : ks + n11 + n14 + n2_14 ≤ ms := by omega
      exact g_vret (pc := 50) hx hb hr hlk hH hS hkc hks hf dJ28_addLast_50
  · rw [if_pos c1] at hf
    exact absurd hf (fun h => by cases h)
theorem mJ28_addLast {l : Launch} {G : gG} {Rp : gM → gM → Nat → Prop} (hk : rOK Rp) {S S2 : gS} {r2 : Unit} {C N : Nat} {l0 : Nat} {l1 : Option Nat} (hf : fJ28_addLast G l0 l1 S = some (r2, S2, C, N)) : gMet l yJ28_addLast cJ28_addLast 3 (none) 4 132 G Rp [.ref l0, va_rf l1] S none S2 C N := by
  refine g_start (by decide) (by simp [lg_sl, va_rf_cat, cat_i, cat_j, cat_r]) (fun p e s m args below meth c ls hc hl hH => ?_)
  have hl : lv_has ls 3 [(0, .ref l0), (1, va_rf l1)] := by simpa [lv_args, va_rf_cat, cat_i, cat_j, cat_r] using hl
  exact wJ28_addLast_b0 hk hc l0 l1 S _ _ ls 0 0 C N (by omega) (by omega) hH va_S.rf (lv_sub hl [0, 1] rfl) hf
end
section
variable {r : Int32} {Sf : gS}
def fJ28_isEmpty (G : gG) (l0 : Nat) (S : gS) : gO Int32 :=
  bd (rdI S l0 18 1) fun v1 =>
  bd (rdI S l0 18 2) fun v2 =>
  if v1 = v2 then
    zg (nI 1) S
  else
    zg (nI 0) S
theorem wJ28_isEmpty_b0 (hk : rOK Rp) (hc : gC p s m args meth c G RJ28 "isEmpty" cJ28_isEmpty 1 (some .boolean)) (l0 : Nat) (S : gS) (H : Heap) (locs : List Loc) (ls : Array Slot) (kc ks C N : Nat) (hkc : kc + C ≤ mc) (hks : ks + N ≤ ms) (hH : hp G Rp S H) (hS : va_S G.2.2.2 s.heap H locs) (hl : lv_has ls 1 [(0, .ref l0)]) (hf : fJ28_isEmpty G l0 S = some (r, Sf, C, N)) : W p l e (gR 1 60 mc ms) s m args below meth c H locs kc ks (gQ below G Rp (some (.int r)) Sf args s mc ms) (F0 m 0 ls []) := by
  obtain ⟨hx, hb, hr, hlk, hml, hown, hts, hE, hA, hnm⟩ := hc
  have hc : gC p s m args meth c G RJ28 "isEmpty" cJ28_isEmpty 1 (some .boolean) := ⟨hx, hb, hr, hlk, hml, hown, hts, hE, hA, hnm⟩
  unfold fJ28_isEmpty at hf
  refine lv_aload_n (pc := 0) hx hb dJ28_isEmpty_0 rfl (lv_at hl 0 rfl) ?_
  obtain ⟨v1, e1, hf⟩ := bdo hf
  refine g_get (pc := 1) (o := (some l0)) (a := l0) (ci := 18) (k := 1) (v := .int v1) (C := RJ28) (T := TJ28) (N := 3) hx hb hts hown hE hk hH in_J28 rfl (by decide) (hts _ q2393) (fun _ h9 => h9) rfl (rdI_o e1) dJ28_isEmpty_1 ?_
  refine lv_aload_n (pc := 4) hx hb dJ28_isEmpty_4 rfl (lv_at hl 0 rfl) ?_
  obtain ⟨v2, e2, hf⟩ := bdo hf
  refine g_get (pc := 5) (o := (some l0)) (a := l0) (ci := 18) (k := 2) (v := .int v2) (C := RJ28) (T := TJ28) (N := 3) hx hb hts hown hE hk hH in_J28 rfl (by decide) (hts _ q2394) (fun _ h9 => h9) rfl (rdI_o e2) dJ28_isEmpty_5 ?_
  refine lv_icmp_ne (pc := 8) (tgt := 15) hx hb dJ28_isEmpty_8 (by decide) (fun c3 => ?_) (fun c3 => ?_)
  · rw [if_neg c3] at hf
    refine lv_iconst (pc := 15) (v := nI 0) hx hb dJ28_isEmpty_15 rfl ?_
    exact g_zret (pc := 16) hx hb hr hlk hH hS hkc hks hf dJ28_isEmpty_16
  · rw [if_pos c3] at hf
    refine lv_iconst (pc := 11) (v := nI 1) hx hb dJ28_isEmpty_11 rfl ?_
    refine lv_goto (pc := 12) (tgt := 16) hx hb dJ28_isEmpty_12 (by decide) ?_
    exact g_zret (pc := 16) hx hb hr hlk hH hS hkc hks hf dJ28_isEmpty_16
theorem mJ28_isEmpty {l : Launch} {G : gG} {Rp : gM → gM → Nat → Prop} (hk : rOK Rp) {S S2 : gS} {r2 : Int32} {C N : Nat} {l0 : Nat} (hf : fJ28_isEmpty G l0 S = some (r2, S2, C, N)) : gMet l yJ28_isEmpty cJ28_isEmpty 1 (some .boolean) 1 60 G Rp [.ref l0] S (some (.int r2)) S2 C N := by
  refine g_start (by decide) (Nat.le_of_ble_eq_true rfl) (fun p e s m args below meth c ls hc hl hH => ?_)
  have hl : lv_has ls 1 [(0, .ref l0)] := hl
  exact wJ28_isEmpty_b0 hk hc l0 S _ _ ls 0 0 C N (by omega) (by omega) hH va_S.rf (lv_sub hl [0] rfl) hf
end
end
