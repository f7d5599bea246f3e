/-! printed by gen/jgen.py: methods of the JDK, lifted and walked at the plain level (4) -/
set_option maxRecDepth 100000
set_option maxHeartbeats 4000000
section
variable {p : Program} {l : Launch} {e : Env} {s : State} {m : MethodId} {args : Array Value} {below : List Frame} {meth : Method} {c : Code} {G : gG} {Rp : gM → gM → Nat → Prop} {mc ms : Nat}
section
variable {r : Option Nat} {Sf : gS}
def fJ28_elementAt (G : gG) (l0 : Option Nat) (l1 : Int32) (S : gS) : gO (Option Nat) :=
  bd l0 fun a1 =>
  bd (rdAq S a1 5 l1) fun v2 =>
  some (v2, S, 0, 0)
theorem wJ28_elementAt_b0 (hk : rOK Rp) (hc : gC p s m args meth c G RJ28 "elementAt" cJ28_elementAt 2 (some (.object "java/lang/Object"))) (l0 : Option Nat) (l1 : Int32) (S : gS) (H : Heap) (locs : List Loc) (ls : Array Slot) (kc ks C N : Nat) (hkc : kc + C ≤ mc) (hks : ks + N ≤ ms) (hH : hp G Rp S H) (hS : va_S G.2.2.2 s.heap H locs) (hl : lv_has ls 2 [(0, va_rf l0), (1, .int l1)]) (hf : fJ28_elementAt G l0 l1 S = some (r, Sf, C, N)) : W p l e (gR 1 60 mc ms) s m args below meth c H locs kc ks (gQ below G Rp (some (va_rf r)) Sf args s mc ms) (F0 m 0 ls []) := by
  obtain ⟨hx, hb, hr, hlk, hml, hown, hts, hE, hA, hnm⟩ := hc
  have hc : gC p s m args meth c G RJ28 "elementAt" cJ28_elementAt 2 (some (.object "java/lang/Object")) := ⟨hx, hb, hr, hlk, hml, hown, hts, hE, hA, hnm⟩
  unfold fJ28_elementAt at hf
  refine g_aload_n (pc := 0) (o := l0) hx hb dJ28_elementAt_0 rfl (lv_at hl 0 rfl) ?_
  refine lv_iload_n (pc := 1) hx hb dJ28_elementAt_1 rfl (lv_at hl 1 rfl) ?_
  obtain ⟨a1, ea1, hf⟩ := bdo hf
  obtain ⟨v2, e2, hf⟩ := bdo hf
  refine g_aald (pc := 2) (o := l0) (a := a1) (t := 5) (t0 := 5) hx hb hE hk hH rfl ea1 e2 dJ28_elementAt_2 ?_
  exact g_aret (pc := 3) (v := v2) hx hb hr (Or.inl ⟨_, rfl⟩) hlk hH hS hkc hks hf dJ28_elementAt_3
theorem mJ28_elementAt {l : Launch} {G : gG} {Rp : gM → gM → Nat → Prop} (hk : rOK Rp) {S S2 : gS} {r2 : Option Nat} {C N : Nat} {l0 : Option Nat} {l1 : Int32} (hf : fJ28_elementAt G l0 l1 S = some (r2, S2, C, N)) : gMet l yJ28_elementAt cJ28_elementAt 2 (some (.object "java/lang/Object")) 1 60 G Rp [va_rf l0, .int l1] S (some (va_rf r2)) S2 C N := by
  refine g_start (by decide) (by simp [lg_sl, va_rf_cat, cat_i, cat_j, cat_r]) (fun p e s m args below meth c ls hc hl hH => ?_)
  have hl : lv_has ls 2 [(0, va_rf l0), (1, .int l1)] := by simpa [lv_args, va_rf_cat, cat_i, cat_j, cat_r] using hl
  exact wJ28_elementAt_b0 hk hc l0 l1 S _ _ ls 0 0 C N (by omega) (by omega) hH va_S.rf (lv_sub hl [0, 1] rfl) hf
end
section
variable {r : Option Nat} {Sf : gS}
def fJ28_pollFirst (G : gG) (l0 : Nat) (S : gS) : gO (Option Nat) :=
  bd (rdR S l0 18 0) fun v1 =>
  bd (rdI S l0 18 1) fun v2 =>
  gb (fJ28_elementAt G v1 v2 S) fun v3 S3 =>
  if v3 = none then
    some (v3, S3, 0, 0)
  else
    bd v1 fun a5 =>
    bd (wrAq S3 a5 5 v2 none) fun S6 =>
    bd (lenQ G S6 a5) fun v7 =>
    gb (fJ28_inc G v2 v7 S6) fun v8 S8 =>
    bd (wr S8 l0 18 1 (.int v8)) fun S9 =>
    some (v3, S9, 0, 0)
theorem wJ28_pollFirst_b0 (hk : rOK Rp) (hc : gC p s m args meth c G RJ28 "pollFirst" cJ28_pollFirst 4 (some (.object "java/lang/Object"))) (l0 : Nat) (S : gS) (H : Heap) (locs : List Loc) (ls : Array Slot) (kc ks C N : Nat) (hkc : kc + C ≤ mc) (hks : ks + N ≤ ms) (hH : hp G Rp S H) (hS : va_S G.2.2.2 s.heap H locs) (hl : lv_has ls 4 [(0, .ref l0)]) (hf : fJ28_pollFirst G l0 S = some (r, Sf, C, N)) : W p l e (gR 2 81 mc ms) s m args below meth c H locs kc ks (gQ below G Rp (some (va_rf r)) Sf args s mc ms) (F0 m 0 ls []) := by
  obtain ⟨hx, hb, hr, hlk, hml, hown, hts, hE, hA, hnm⟩ := hc
  have hc : gC p s m args meth c G RJ28 "pollFirst" cJ28_pollFirst 4 (some (.object "java/lang/Object")) := ⟨hx, hb, hr, hlk, hml, hown, hts, hE, hA, hnm⟩
  unfold fJ28_pollFirst at hf
  refine lv_aload_n (pc := 0) hx hb dJ28_pollFirst_0 rfl (lv_at hl 0 rfl) ?_
  obtain ⟨v1, e1, hf⟩ := bdo hf
  refine g_get (pc := 1) (o := (some l0)) (a := l0) (ci := 18) (k := 0) (v := va_rf v1) (C := RJ28) (T := TJ28) (N := 3) hx hb hts hown hE hk hH in_J28 rfl (by decide) (hts _ q2390) (fun _ h9 => h9) rfl (rdR_o e1) dJ28_pollFirst_1 ?_
  refine lv_dup (pc := 4) hx hb dJ28_pollFirst_4 (va_rf_cat _) ?_
  refine g_astore_n (pc := 5) (i := 1) (o := v1) (lv' := [(1, va_rf v1), (0, .ref l0)]) hx hb dJ28_pollFirst_5 rfl hl (by decide) rfl (fun ls hl => ?_)
  refine lv_aload_n (pc := 6) hx hb dJ28_pollFirst_6 rfl (lv_at hl 1 rfl) ?_
  obtain ⟨v2, e2, hf⟩ := bdo hf
  refine g_get (pc := 7) (o := (some l0)) (a := l0) (ci := 18) (k := 1) (v := .int v2) (C := RJ28) (T := TJ28) (N := 3) hx hb hts hown hE hk hH in_J28 rfl (by decide) (hts _ q2393) (fun _ h9 => h9) rfl (rdI_o e2) dJ28_pollFirst_7 ?_
  refine lv_dup (pc := 10) hx hb dJ28_pollFirst_10 rfl ?_
  refine lv_istore_n (pc := 11) (i := 2) (lv' := [(2, .int v2), (1, va_rf v1), (0, .ref l0)]) hx hb dJ28_pollFirst_11 rfl hl (by decide) (by simp [va_rf_cat, cat_i, cat_j, cat_r] <;> rfl) (fun ls hl => ?_)
  obtain ⟨v3, S3, c3, n3, c2_3, n2_3, e3, hf, hC3, hN3⟩ := gbo hf
  refine g_callS (pc := 12) (As := [va_rf v1, .int v2]) (rest := []) (st1 := [va_rf v3]) hc (mJ28_elementAt hk (l0 := v1) (l1 := v2) e3) (va_cwS 2 hts (lw_S q1508 q1509 q137 q1510) rfl rfl rfl jhdJ28_elementAt ⟨Nat.le_of_ble_eq_true rfl, Nat.le_of_ble_eq_true rfl⟩) rfl hl.1 rfl rfl (lv_room (Nat.le_of_ble_eq_true rfl)) dJ28_pollFirst_12 hH hS (by omega) (by omega) (fun H locs hH hS => ?_)
  have hkc : kc + c3 + c2_3 ≤ mc := by omega
  have hks : ks + n3 + n2_3 ≤ ms := by omega
  refine g_astore_n (pc := 15) (i := 3) (o := v3) (lv' := [(3, va_rf v3), (2, .int v2), (1, va_rf v1), (0, .ref l0)]) hx hb dJ28_pollFirst_15 rfl hl (by decide) rfl (fun ls hl => ?_)
  refine g_aload_n (pc := 16) (o := v3) hx hb dJ28_pollFirst_16 rfl (lv_at hl 0 rfl) ?_
  refine g_ifnull (pc := 17) (o := v3) (tgt := 34) hx hb dJ28_pollFirst_17 (by decide) (fun c4 => ?_) (fun c4 => ?_)
  · rw [if_pos c4] at hf
    refine g_aload_n (pc := 34) (o := v3) hx hb dJ28_pollFirst_34 rfl (lv_at hl 0 rfl) ?_
    exact g_aret (pc := 35) (v := v3) hx hb hr (Or.inl ⟨_, rfl⟩) hlk hH hS hkc hks hf dJ28_pollFirst_35
  · rw [if_neg c4] at hf
    refine g_aload_n (pc := 20) (o := v1) hx hb dJ28_pollFirst_20 rfl (lv_at hl 2 rfl) ?_
    refine lv_iload_n (pc := 21) hx hb dJ28_pollFirst_21 rfl (lv_at hl 1 rfl) ?_
    refine lv_null (pc := 22) hx hb dJ28_pollFirst_22 ?_
    obtain ⟨a5, ea5, hf⟩ := bdo hf
    obtain ⟨S6, e6, hf⟩ := bdo hf
    refine g_aastN (pc := 23) (o := v1) (a := a5) hx hb hE hk hH hS ea5 e6 dJ28_pollFirst_23 (fun H locs hH hS => ?_)
    refine lv_aload_n (pc := 24) hx hb dJ28_pollFirst_24 rfl (lv_at hl 3 rfl) ?_
    refine lv_iload_n (pc := 25) hx hb dJ28_pollFirst_25 rfl (lv_at hl 1 rfl) ?_
    refine g_aload_n (pc := 26) (o := v1) hx hb dJ28_pollFirst_26 rfl (lv_at hl 2 rfl) ?_
    obtain ⟨v7, e7, hf⟩ := bdo hf
    refine g_lenQ (pc := 27) (o := v1) (a := a5) hx hb hE hk hH hS ea5 e7 dJ28_pollFirst_27 ?_
    obtain ⟨v8, S8, c8, n8, c2_8, n2_8, e8, hf, hC8, hN8⟩ := gbo hf
    refine g_callS (pc := 28) (As := [.int v2, .int v7]) (rest := [.ref l0]) (st1 := [.int v8, .ref l0]) hc (mJ28_inc hk (l0 := v2) (l1 := v7) e8) (va_cwS 2 hts (lw_S q1511 q1470 q137 q1471) rfl rfl rfl jhdJ28_inc ⟨Nat.le_of_ble_eq_true rfl, Nat.le_of_ble_eq_true rfl⟩) rfl hl.1 rfl rfl (lv_room (Nat.le_of_ble_eq_true rfl)) dJ28_pollFirst_28 hH hS (by omega) (by omega) (fun H locs hH hS => ?_)
    have hkc : kc + c3 + c8 + c2_8 ≤ mc := by omega
    have hks : ks + n3 + n8 + n2_8 ≤ ms := by omega
    obtain ⟨S9, e9, hf⟩ := bdo hf
    refine g_put (pc := 31) (o := (some l0)) (a := l0) (ci := 18) (k := 1) (v := .int v8) (C := RJ28) (T := TJ28) (N := 3) (ty := .int) hx hb hts hown hE hk hH hS rfl in_J28 tyJ28_ok nmJ28 rfl (by decide) (hts _ q2393) (fun _ h9 => h9) rfl rfl rfl rfl rfl e9 dJ28_pollFirst_31 (fun H locs hH hS => ?_)
    refine g_aload_n (pc := 34) (o := v3) hx hb dJ28_pollFirst_34 rfl (lv_at hl 0 rfl) ?_
    exact g_aret (pc := 35) (v := v3) hx hb hr (Or.inl ⟨_, rfl⟩) hlk hH hS hkc hks hf dJ28_pollFirst_35
theorem mJ28_pollFirst {l : Launch} {G : gG} {Rp : gM → gM → Nat → Prop} (hk : rOK Rp) {S S2 : gS} {r2 : Option Nat} {C N : Nat} {l0 : Nat} (hf : fJ28_pollFirst G l0 S = some (r2, S2, C, N)) : gMet l yJ28_pollFirst cJ28_pollFirst 4 (some (.object "java/lang/Object")) 2 81 G Rp [.ref l0] S (some (va_rf r2)) S2 C N := by
  refine g_start (by decide) (Nat.le_of_ble_eq_true rfl) (fun p e s m args below meth c ls hc hl hH => ?_)
  have hl : lv_has ls 4 [(0, .ref l0)] := hl
  exact wJ28_pollFirst_b0 hk hc l0 S _ _ ls 0 0 C N (by omega) (by omega) hH va_S.rf (lv_sub hl [0] rfl) hf
end
section
variable {r : Int32} {Sf : gS}
def fJ28_sub (G : gG) (l0 : Int32) (l1 : Int32) (l2 : Int32) (S : gS) : gO Int32 :=
  if 0 ≤ (l0 - l1) then
    some (l0 - l1, S, 0, 0)
  else
    some ((l0 - l1) + l2, S, 0, 0)
theorem wJ28_sub_b0 (hk : rOK Rp) (hc : gC p s m args meth c G RJ28 "sub" cJ28_sub 3 (some .int)) (l0 : Int32) (l1 : Int32) (l2 : Int32) (S : gS) (H : Heap) (locs : List Loc) (ls : Array Slot) (kc ks C N : Nat) (hkc : kc + C ≤ mc) (hks : ks + N ≤ ms) (hH : hp G Rp S H) (hS : va_S G.2.2.2 s.heap H locs) (hl : lv_has ls 3 [(0, .int l0), (1, .int l1), (2, .int l2)]) (hf : fJ28_sub G l0 l1 l2 S = some (r, Sf, C, N)) : W p l e (gR 1 60 mc ms) s m args below meth c H locs kc ks (gQ below G Rp (some (.int r)) Sf args s mc ms) (F0 m 0 ls []) := by
  obtain ⟨hx, hb, hr, hlk, hml, hown, hts, hE, hA, hnm⟩ := hc
  have hc : gC p s m args meth c G RJ28 "sub" cJ28_sub 3 (some .int) := ⟨hx, hb, hr, hlk, hml, hown, hts, hE, hA, hnm⟩
  unfold fJ28_sub at hf
  refine lv_iload_n (pc := 0) hx hb dJ28_sub_0 rfl (lv_at hl 0 rfl) ?_
  refine lv_iload_n (pc := 1) hx hb dJ28_sub_1 rfl (lv_at hl 1 rfl) ?_
  refine lv_isub (pc := 2) hx hb dJ28_sub_2 ?_
  refine lv_dup (pc := 3) hx hb dJ28_sub_3 rfl ?_
  refine lv_istore_n (pc := 4) (i := 0) (lv' := [(0, .int (l0 - l1)), (1, .int l1), (2, .int l2)]) hx hb dJ28_sub_4 rfl hl (by decide) rfl (fun ls hl => ?_)
  refine lv_if_ge (pc := 5) (tgt := 12) hx hb dJ28_sub_5 (by decide) (fun c1 => ?_) (fun c1 => ?_)
  · rw [if_pos c1] at hf
    refine lv_iload_n (pc := 12) hx hb dJ28_sub_12 rfl (lv_at hl 0 rfl) ?_
    exact g_iret (pc := 13) hx hb hr hlk hH hS hkc hks hf dJ28_sub_13
  · rw [if_neg c1] at hf
    refine lv_iload_n (pc := 8) hx hb dJ28_sub_8 rfl (lv_at hl 0 rfl) ?_
    refine lv_iload_n (pc := 9) hx hb dJ28_sub_9 rfl (lv_at hl 2 rfl) ?_
    refine lv_iadd (pc := 10) hx hb dJ28_sub_10 ?_
    refine lv_istore_n (pc := 11) (i := 0) (lv' := [(0, .int ((l0 - l1) + l2)), (1, .int l1), (2, .int l2)]) hx hb dJ28_sub_11 rfl hl (by decide) rfl (fun ls hl => ?_)
    refine lv_iload_n (pc := 12) hx hb dJ28_sub_12 rfl (lv_at hl 0 rfl) ?_
    exact g_iret (pc := 13) hx hb hr hlk hH hS hkc hks hf dJ28_sub_13
theorem mJ28_sub {l : Launch} {G : gG} {Rp : gM → gM → Nat → Prop} (hk : rOK Rp) {S S2 : gS} {r2 : Int32} {C N : Nat} {l0 : Int32} {l1 : Int32} {l2 : Int32} (hf : fJ28_sub G l0 l1 l2 S = some (r2, S2, C, N)) : gMet l yJ28_sub cJ28_sub 3 (some .int) 1 60 G Rp [.int l0, .int l1, .int l2] S (some (.int r2)) S2 C N := by
  refine g_start (by decide) (Nat.le_of_ble_eq_true rfl) (fun p e s m args below meth c ls hc hl hH => ?_)
  have hl : lv_has ls 3 [(0, .int l0), (1, .int l1), (2, .int l2)] := hl
  exact wJ28_sub_b0 hk hc l0 l1 l2 S _ _ ls 0 0 C N (by omega) (by omega) hH va_S.rf (lv_sub hl [0, 1, 2] rfl) hf
end
section
variable {r : Int32} {Sf : gS}
def fJ28_size (G : gG) (l0 : Nat) (S : gS) : gO Int32 :=
  bd (rdI S l0 18 2) fun v1 =>
  bd (rdI S l0 18 1) fun v2 =>
  bd (rdR S l0 18 0) fun v3 =>
  bd v3 fun a4 =>
  bd (lenQ G S a4) fun v5 =>
  gb (fJ28_sub G v1 v2 v5 S) fun v6 S6 =>
  some (v6, S6, 0, 0)
theorem wJ28_size_b0 (hk : rOK Rp) (hc : gC p s m args meth c G RJ28 "size" cJ28_size 1 (some .int)) (l0 : Nat) (S : gS) (H : Heap) (locs : List Loc) (ls : Array Slot) (kc ks C N : Nat) (hkc : kc + C ≤ mc) (hks : ks + N ≤ ms) (hH : hp G Rp S H) (hS : va_S G.2.2.2 s.heap H locs) (hl : lv_has ls 1 [(0, .ref l0)]) (hf : fJ28_size G l0 S = some (r, Sf, C, N)) : W p l e (gR 2 82 mc ms) s m args below meth c H locs kc ks (gQ below G Rp (some (.int r)) Sf args s mc ms) (F0 m 0 ls []) := by
  obtain ⟨hx, hb, hr, hlk, hml, hown, hts, hE, hA, hnm⟩ := hc
  have hc : gC p s m args meth c G RJ28 "size" cJ28_size 1 (some .int) := ⟨hx, hb, hr, hlk, hml, hown, hts, hE, hA, hnm⟩
  unfold fJ28_size at hf
  refine lv_aload_n (pc := 0) hx hb dJ28_size_0 rfl (lv_at hl 0 rfl) ?_
  obtain ⟨v1, e1, hf⟩ := bdo hf
  refine g_get (pc := 1) (o := (some l0)) (a := l0) (ci := 18) (k := 2) (v := .int v1) (C := RJ28) (T := TJ28) (N := 3) hx hb hts hown hE hk hH in_J28 rfl (by decide) (hts _ q2394) (fun _ h9 => h9) rfl (rdI_o e1) dJ28_size_1 ?_
  refine lv_aload_n (pc := 4) hx hb dJ28_size_4 rfl (lv_at hl 0 rfl) ?_
  obtain ⟨v2, e2, hf⟩ := bdo hf
  refine g_get (pc := 5) (o := (some l0)) (a := l0) (ci := 18) (k := 1) (v := .int v2) (C := RJ28) (T := TJ28) (N := 3) hx hb hts hown hE hk hH in_J28 rfl (by decide) (hts _ q2393) (fun _ h9 => h9) rfl (rdI_o e2) dJ28_size_5 ?_
  refine lv_aload_n (pc := 8) hx hb dJ28_size_8 rfl (lv_at hl 0 rfl) ?_
  obtain ⟨v3, e3, hf⟩ := bdo hf
  refine g_get (pc := 9) (o := (some l0)) (a := l0) (ci := 18) (k := 0) (v := va_rf v3) (C := RJ28) (T := TJ28) (N := 3) hx hb hts hown hE hk hH in_J28 rfl (by decide) (hts _ q2390) (fun _ h9 => h9) rfl (rdR_o e3) dJ28_size_9 ?_
  obtain ⟨a4, ea4, hf⟩ := bdo hf
  obtain ⟨v5, e5, hf⟩ := bdo hf
  refine g_lenQ (pc := 12) (o := v3) (a := a4) hx hb hE hk hH hS ea4 e5 dJ28_size_12 ?_
  obtain ⟨v6, S6, c6, n6, c2_6, n2_6, e6, hf, hC6, hN6⟩ := gbo hf
  refine g_callS (pc := 13) (As := [.int v1, .int v2, .int v5]) (rest := []) (st1 := [.int v6]) hc (mJ28_sub hk (l0 := v1) (l1 := v2) (l2 := v5) e6) (va_cwS 3 hts (lw_S q2115 q2116 q137 q2117) rfl rfl rfl jhdJ28_sub ⟨Nat.le_of_ble_eq_true rfl, Nat.le_of_ble_eq_true rfl⟩) rfl hl.1 rfl rfl (lv_room (Nat.le_of_ble_eq_true rfl)) dJ28_size_13 hH hS (by omega) (by omega) (fun H locs hH hS => ?_)
  have hkc : kc + c6 + c2_6 ≤ mc := by omega
  have hks : ks + n6 + n2_6 ≤ ms := by omega
  exact g_iret (pc := 16) hx hb hr hlk hH hS hkc hks hf dJ28_size_16
theorem mJ28_size {l : Launch} {G : gG} {Rp : gM → gM → Nat → Prop} (hk : rOK Rp) {S S2 : gS} {r2 : Int32} {C N : Nat} {l0 : Nat} (hf : fJ28_size G l0 S = some (r2, S2, C, N)) : gMet l yJ28_size cJ28_size 1 (some .int) 2 82 G Rp [.ref l0] S (some (.int r2)) S2 C N := by
  refine g_start (by decide) (Nat.le_of_ble_eq_true rfl) (fun p e s m args below meth c ls hc hl hH => ?_)
  have hl : lv_has ls 1 [(0, .ref l0)] := hl
  exact wJ28_size_b0 hk hc l0 S _ _ ls 0 0 C N (by omega) (by omega) hH va_S.rf (lv_sub hl [0] rfl) hf
end
section
variable {r : Unit} {Sf : gS}
def fJ40_init (G : gG) (l0 : Nat) (l1 : Option Nat) (S : gS) : gO Unit :=
  bd (wr S l0 24 3 (va_rf l1)) fun S1 =>
  bd (rdR S1 l0 24 3) fun v3 =>
  bd v3 fun a5 =>
  bd (chk S1 a5 18) fun _ =>
  gb (fJ28_size G a5 S1) fun v4 S4 =>
  bd (wr S4 l0 24 1 (.int v4)) fun S6 =>
  bd (wr S6 l0 24 2 (.int (-1))) fun S7 =>
  bd l1 fun a8 =>
  bd (rdI S7 a8 18 1) fun v9 =>
  bd (wr S7 l0 24 0 (.int v9)) fun S10 =>
  some ((), S10, 0, 0)
theorem wJ40_init_b0 (hk : rOK Rp) (hc : gC p s m args meth c G RJ40 "<init>" cJ40_init 2 (none)) (l0 : Nat) (l1 : Option Nat) (S : gS) (H : Heap) (locs : List Loc) (ls : Array Slot) (kc ks C N : Nat) (hkc : kc + C ≤ mc) (hks : ks + N ≤ ms) (hH : hp G Rp S H) (hS : va_S G.2.2.2 s.heap H locs) (hl : lv_has ls 2 [(0, .ref l0), (1, va_rf l1)]) (hf : fJ40_init G l0 l1 S = some (r, Sf, C, N)) : W p l e (gR 3 102 mc ms) s m args below meth c H locs kc ks (gQ below G Rp none Sf args s mc ms) (F0 m 0 ls []) := by
  obtain ⟨hx, hb, hr, hlk, hml, hown, hts, hE, hA, hnm⟩ := hc
  have hc : gC p s m args meth c G RJ40 "<init>" cJ40_init 2 (none) := ⟨hx, hb, hr, hlk, hml, hown, hts, hE, hA, hnm⟩
  unfold fJ40_init at hf
  refine lv_aload_n (pc := 0) hx hb dJ40_init_0 rfl (lv_at hl 0 rfl) ?_
  refine g_aload_n (pc := 1) (o := l1) hx hb dJ40_init_1 rfl (lv_at hl 1 rfl) ?_
  obtain ⟨S1, e1, hf⟩ := bdo hf
  refine g_putF (pc := 2) (o := (some l0)) (a := l0) (ci := 24) (k := 3) (v := va_rf l1) (C := RJ40) (T := TJ40) (N := 4) (ty := .object "java/util/ArrayDeque") hx hb hts hown hE hk hH hS rfl in_J40 tyJ40_ok nmJ40 rfl (by decide) (hts _ q2662) (fun _ h9 => h9) rfl hnm rfl rfl (nar_rf _ _) (fit_rf _ _) rfl e1 dJ40_init_2 (fun H locs hH hS => ?_)
  refine lv_aload_n (pc := 5) hx hb dJ40_init_5 rfl (lv_at hl 0 rfl) ?_
  refine W.objInit  hx hb hown (hts _ q2654) (hts _ q169) (hts _ q170) rfl (by rw [hml]; exact hl.1) rfl dJ40_init_6 (Nat.le_of_ble_eq_true rfl) (Nat.le_of_ble_eq_true rfl) ?_
  refine W.eq (g2 := F0 m 9 ls []) rfl ?_
  refine lv_aload_n (pc := 9) hx hb dJ40_init_9 rfl (lv_at hl 0 rfl) ?_
  refine lv_aload_n (pc := 10) hx hb dJ40_init_10 rfl (lv_at hl 0 rfl) ?_
  obtain ⟨v3, e3, hf⟩ := bdo hf
  refine g_get (pc := 11) (o := (some l0)) (a := l0) (ci := 24) (k := 3) (v := va_rf v3) (C := RJ40) (T := TJ40) (N := 4) hx hb hts hown hE hk hH in_J40 rfl (by decide) (hts _ q2662) (fun _ h9 => h9) rfl (rdR_o e3) dJ40_init_11 ?_
  obtain ⟨a5, ea5, hf⟩ := bdo hf
  obtain ⟨_, ek4, hf⟩ := bdo hf
  obtain ⟨v4, S4, c4, n4, c2_4, n2_4, e4, hf, hC4, hN4⟩ := gbo hf
  refine g_callV (pc := 14) (o := v3) (b := a5) (As := []) (rest := [.ref l0]) (st1 := [.int v4, .ref l0]) hc (mJ28_size hk (l0 := a5) e4) (cwV 0 hts (lw_V q2655 q2656 q2657 q137 q2658) rfl rfl rfl jhdJ28_size ⟨Nat.le_of_ble_eq_true rfl, Nat.le_of_ble_eq_true rfl⟩) (g_recv hE hk hH (ci := 18) (q := (RJ28, TJ28, 3)) rfl (chk_o ek4).choose_spec) ea5 rfl hl.1 rfl rfl (lv_room (Nat.le_of_ble_eq_true rfl)) dJ40_init_14 hH hS (by omega) (by omega) (fun H locs hH hS => ?_)
  have hkc : kc + c4 + c2_4 ≤ mc := by omega
  have hks : ks + n4 + n2_4 ≤ ms := by omega
  obtain ⟨S6, e6, hf⟩ := bdo hf
  refine g_put (pc := 17) (o := (some l0)) (a := l0) (ci := 24) (k := 1) (v := .int v4) (C := RJ40) (T := TJ40) (N := 4) (ty := .int) hx hb hts hown hE hk hH hS rfl in_J40 tyJ40_ok nmJ40 rfl (by decide) (hts _ q2660) (fun _ h9 => h9) rfl rfl rfl rfl rfl e6 dJ40_init_17 (fun H locs hH hS => ?_)
  refine lv_aload_n (pc := 20) hx hb dJ40_init_20 rfl (lv_at hl 0 rfl) ?_
  refine lv_iconst (pc := 21) (v := -1) hx hb dJ40_init_21 rfl ?_
  obtain ⟨S7, e7, hf⟩ := bdo hf
  refine g_put (pc := 22) (o := (some l0)) (a := l0) (ci := 24) (k := 2) (v := .int (-1)) (C := RJ40) (T := TJ40) (N := 4) (ty := .int) hx hb hts hown hE hk hH hS rfl in_J40 tyJ40_ok nmJ40 rfl (by decide) (hts _ q2661) (fun _ h9 => h9) rfl rfl rfl rfl rfl e7 dJ40_init_22 (fun H locs hH hS => ?_)
  refine lv_aload_n (pc := 25) hx hb dJ40_init_25 rfl (lv_at hl 0 rfl) ?_
  refine g_aload_n (pc := 26) (o := l1) hx hb dJ40_init_26 rfl (lv_at hl 1 rfl) ?_
  obtain ⟨a8, ea8, hf⟩ := bdo hf
  obtain ⟨v9, e9, hf⟩ := bdo hf
  refine g_get (pc := 27) (o := l1) (a := a8) (ci := 18) (k := 1) (v := .int v9) (C := RJ28) (T := TJ28) (N := 3) hx hb hts hown hE hk hH in_J28 rfl (by decide) (hts _ q2392) (fun _ h9 => h9) ea8 (rdI_o e9) dJ40_init_27 ?_
  obtain ⟨S10, e10, hf⟩ := bdo hf
  refine g_put (pc := 30) (o := (some l0)) (a := l0) (ci := 24) (k := 0) (v := .int v9) (C := RJ40) (T := TJ40) (N := 4) (ty := .int) hx hb hts hown hE hk hH hS rfl in_J40 tyJ40_ok nmJ40 rfl (by decide) (hts _ q2659) (fun _ h9 => h9) rfl rfl rfl rfl rfl e10 dJ40_init_30 (fun H locs hH hS => ?_)
  exact g_vret (pc := 33) hx hb hr hlk hH hS hkc hks hf dJ40_init_33
theorem mJ40_init {l : Launch} {G : gG} {Rp : gM → gM → Nat → Prop} (hk : rOK Rp) {S S2 : gS} {r2 : Unit} {C N : Nat} {l0 : Nat} {l1 : Option Nat} (hf : fJ40_init G l0 l1 S = some (r2, S2, C, N)) : gMet l yJ40_init cJ40_init 2 (none) 3 102 G Rp [.ref l0, va_rf l1] S none S2 C N := by
  refine g_start (by decide) (by simp [lg_sl, va_rf_cat, cat_i, cat_j, cat_r]) (fun p e s m args below meth c ls hc hl hH => ?_)
  have hl : lv_has ls 2 [(0, .ref l0), (1, va_rf l1)] := by simpa [lv_args, va_rf_cat, cat_i, cat_j, cat_r] using hl
  exact wJ40_init_b0 hk hc l0 l1 S _ _ ls 0 0 C N (by omega) (by omega) hH va_S.rf (lv_sub hl [0, 1] rfl) hf
end
section
variable {r : Option Nat} {Sf : gS}
def fJ28_iterator (G : gG) (l0 : Nat) (S : gS) : gO (Option Nat) :=
  nw S (cO 24 [.int 0, .int 0, .int 0, .null]) 4 fun S1 =>
  gb (fJ40_init G S.2 (some l0) S1) fun _ S2 =>
  some ((some S.2), S2, 0, 0)
theorem wJ28_iterator_b0 (hk : rOK Rp) (hc : gC p s m args meth c G RJ28 "iterator" cJ28_iterator 1 (some (.object "java/util/Iterator"))) (l0 : Nat) (S : gS) (H : Heap) (locs : List Loc) (ls : Array Slot) (kc ks C N : Nat) (hkc : kc + C ≤ mc) (hks : ks + N ≤ ms) (hH : hp G Rp S H) (hS : va_S G.2.2.2 s.heap H locs) (hl : lv_has ls 1 [(0, .ref l0)]) (hf : fJ28_iterator G l0 S = some (r, Sf, C, N)) : W p l e (gR 4 123 mc ms) s m args below meth c H locs kc ks (gQ below G Rp (some (va_rf r)) Sf args s mc ms) (F0 m 0 ls []) := by
  obtain ⟨hx, hb, hr, hlk, hml, hown, hts, hE, hA, hnm⟩ := hc
  have hc : gC p s m args meth c G RJ28 "iterator" cJ28_iterator 1 (some (.object "java/util/Iterator")) := ⟨hx, hb, hr, hlk, hml, hown, hts, hE, hA, hnm⟩
  unfold fJ28_iterator at hf
  obtain ⟨S1, c2_1, n2_1, eS1, hf, hC1, hN1⟩ := nwo hf
  refine g_newo (pc := 0) (ci := 24) (C := RJ40) (T := TJ40) (N := 4) (fs := [.int 0, .int 0, .int 0, .null]) hx hb hts hown hE hA hk hH hS in_J40 tyJ40_ok q2649 q2650 q162 rfl (fun j hj => by rcases (show j = 0 ∨ j = 1 ∨ j = 2 ∨ j = 3 by omega) with rfl | rfl | rfl | rfl <;> rfl) eS1 (Nat.le_trans (by omega) hkc) (Nat.le_trans (by omega) hks) dJ28_iterator_0 (fun H hH hS => ?_)
  have hkc : kc + 1 + c2_1 ≤ mc := by omega
  have hks : ks + 4 + n2_1 ≤ ms := by omega
  refine lv_dup (pc := 3) hx hb dJ28_iterator_3 rfl ?_
  refine lv_aload_n (pc := 4) hx hb dJ28_iterator_4 rfl (lv_at hl 0 rfl) ?_
  obtain ⟨_, S2, c2, n2, c2_2, n2_2, e2, hf, hC2, hN2⟩ := gbo hf
  refine g_callI (pc := 5) (o := (some S.2)) (b := S.2) (As := [.ref l0]) (rest := [.ref S.2]) hc (mJ40_init hk (l0 := S.2) (l1 := (some l0)) e2) (cwI 1 hts (lw_meth q2653) rfl rfl rfl (hts _ q162) (hts _ q2651) (hts _ q2652) rfl jhdiJ40_init ⟨Nat.le_of_ble_eq_true rfl, Nat.le_of_ble_eq_true rfl⟩) rfl rfl hl.1 rfl (lv_room (Nat.le_of_ble_eq_true rfl)) dJ28_iterator_5 hH hS (by omega) (by omega) (fun H locs hH hS => ?_)
  have hkc : kc + 1 + c2 + c2_2 ≤ mc := by omega
  have hks : ks + 4 + n2 + n2_2 ≤ ms := by omega
  exact g_aret (pc := 8) (v := (some S.2)) hx hb hr (Or.inl ⟨_, rfl⟩) hlk hH hS hkc hks hf dJ28_iterator_8
theorem mJ28_iterator {l : Launch} {G : gG} {Rp : gM → gM → Nat → Prop} (hk : rOK Rp) {S S2 : gS} {r2 : Option Nat} {C N : Nat} {l0 : Nat} (hf : fJ28_iterator G l0 S = some (r2, S2, C, N)) : gMet l yJ28_iterator cJ28_iterator 1 (some (.object "java/util/Iterator")) 4 123 G Rp [.ref l0] S (some (va_rf r2)) S2 C N := by
  refine g_start (by decide) (Nat.le_of_ble_eq_true rfl) (fun p e s m args below meth c ls hc hl hH => ?_)
  have hl : lv_has ls 1 [(0, .ref l0)] := hl
  exact wJ28_iterator_b0 hk hc l0 S _ _ ls 0 0 C N (by omega) (by omega) hH va_S.rf (lv_sub hl [0] rfl) hf
end
section
variable {r : Unit} {Sf : gS}
def fJ22_init_c26 (G : gG) (l0 : Nat) (S : gS) : gO Unit :=
  some ((), S, 0, 0)
theorem wJ22_init_c26_b0 (hk : rOK Rp) (hc : gC p s m args meth c G RJ22 "<init>" cJ22_init 1 (none)) (l0 : Nat) (S : gS) (H : Heap) (locs : List Loc) (ls : Array Slot) (kc ks C N : Nat) (hkc : kc + C ≤ mc) (hks : ks + N ≤ ms) (hH : hp G Rp S H) (hS : va_S G.2.2.2 s.heap H locs) (hl : lv_has ls 1 [(0, .ref l0)]) (hf : fJ22_init_c26 G l0 S = some (r, Sf, C, N)) : W p l e (gR 1 60 mc ms) s m args below meth c H locs kc ks (gQ below G Rp none Sf args s mc ms) (F0 m 0 ls []) := by
  obtain ⟨hx, hb, hr, hlk, hml, hown, hts, hE, hA, hnm⟩ := hc
  have hc : gC p s m args meth c G RJ22 "<init>" cJ22_init 1 (none) := ⟨hx, hb, hr, hlk, hml, hown, hts, hE, hA, hnm⟩
  unfold fJ22_init_c26 at hf
  refine lv_aload_n (pc := 0) hx hb dJ22_init_0 rfl (lv_at hl 0 rfl) ?_
  refine W.objInit  hx hb hown (hts _ q2638) (hts _ q169) (hts _ q170) rfl (by rw [hml]; exact hl.1) rfl dJ22_init_1 (Nat.le_of_ble_eq_true rfl) (Nat.le_of_ble_eq_true rfl) ?_
  refine W.eq (g2 := F0 m 4 ls []) rfl ?_
  exact g_vret (pc := 4) hx hb hr hlk hH hS hkc hks hf dJ22_init_4
theorem mJ22_init_c26 {l : Launch} {G : gG} {Rp : gM → gM → Nat → Prop} (hk : rOK Rp) {S S2 : gS} {r2 : Unit} {C N : Nat} {l0 : Nat} (hf : fJ22_init_c26 G l0 S = some (r2, S2, C, N)) : gMet l yJ22_init cJ22_init 1 (none) 1 60 G Rp [.ref l0] S none S2 C N := by
  refine g_start (by decide) (Nat.le_of_ble_eq_true rfl) (fun p e s m args below meth c ls hc hl hH => ?_)
  have hl : lv_has ls 1 [(0, .ref l0)] := hl
  exact wJ22_init_c26_b0 hk hc l0 S _ _ ls 0 0 C N (by omega) (by omega) hH va_S.rf (lv_sub hl [0] rfl) hf
end
section
variable {r : Unit} {Sf : gS}
def fJ23_init (G : gG) (l0 : Nat) (l1 : Int32) (S : gS) : gO Unit :=
  gb (fJ22_init_c26 G l0 S) fun _ S1 =>
  bd (wr S1 l0 26 0 (.int l1)) fun S2 =>
  some ((), S2, 0, 0)
theorem wJ23_init_b0 (hk : rOK Rp) (hc : gC p s m args meth c G RJ23 "<init>" cJ23_init 2 (none)) (l0 : Nat) (l1 : Int32) (S : gS) (H : Heap) (locs : List Loc) (ls : Array Slot) (kc ks C N : Nat) (hkc : kc + C ≤ mc) (hks : ks + N ≤ ms) (hH : hp G Rp S H) (hS : va_S G.2.2.2 s.heap H locs) (hl : lv_has ls 2 [(0, .ref l0), (1, .int l1)]) (hf : fJ23_init G l0 l1 S = some (r, Sf, C, N)) : W p l e (gR 2 80 mc ms) s m args below meth c H locs kc ks (gQ below G Rp none Sf args s mc ms) (F0 m 0 ls []) := by
  obtain ⟨hx, hb, hr, hlk, hml, hown, hts, hE, hA, hnm⟩ := hc
  have hc : gC p s m args meth c G RJ23 "<init>" cJ23_init 2 (none) := ⟨hx, hb, hr, hlk, hml, hown, hts, hE, hA, hnm⟩
  unfold fJ23_init at hf
  refine lv_aload_n (pc := 0) hx hb dJ23_init_0 rfl (lv_at hl 0 rfl) ?_
  obtain ⟨_, S1, c1, n1, c2_1, n2_1, e1, hf, hC1, hN1⟩ := gbo hf
  refine g_callI (pc := 1) (o := (some l0)) (b := l0) (As := []) (rest := []) hc (mJ22_init_c26 hk (l0 := l0) e1) (cwI 0 hts (lw_meth q2637) rfl rfl rfl (hts _ q125) (hts _ q2635) (hts _ q2636) rfl jhdiJ22_init ⟨Nat.le_of_ble_eq_true rfl, Nat.le_of_ble_eq_true rfl⟩) rfl rfl hl.1 rfl (lv_room (Nat.le_of_ble_eq_true rfl)) dJ23_init_1 hH hS (by omega) (by omega) (fun H locs hH hS => ?_)
  have hkc : kc + c1 + c2_1 ≤ mc := by omega
  have hks : ks + n1 + n2_1 ≤ ms := by omega
  refine lv_aload_n (pc := 4) hx hb dJ23_init_4 rfl (lv_at hl 0 rfl) ?_
  refine lv_iload_n (pc := 5) hx hb dJ23_init_5 rfl (lv_at hl 1 rfl) ?_
  obtain ⟨S2, e2, hf⟩ := bdo hf
  refine g_putF (pc := 6) (o := (some l0)) (a := l0) (ci := 26) (k := 0) (v := .int l1) (C := RJ23) (T := TJ23) (N := 1) (ty := .int) hx hb hts hown hE hk hH hS rfl in_J23 tyJ23_ok nmJ23 rfl (by decide) (hts _ q2639) (fun _ h9 => h9) rfl hnm rfl rfl rfl rfl rfl e2 dJ23_init_6 (fun H locs hH hS => ?_)
  exact g_vret (pc := 9) hx hb hr hlk hH hS hkc hks hf dJ23_init_9
theorem mJ23_init {l : Launch} {G : gG} {Rp : gM → gM → Nat → Prop} (hk : rOK Rp) {S S2 : gS} {r2 : Unit} {C N : Nat} {l0 : Nat} {l1 : Int32} (hf : fJ23_init G l0 l1 S = some (r2, S2, C, N)) : gMet l yJ23_init cJ23_init 2 (none) 2 80 G Rp [.ref l0, .int l1] S none S2 C N := by
  refine g_start (by decide) (Nat.le_of_ble_eq_true rfl) (fun p e s m args below meth c ls hc hl hH => ?_)
  have hl : lv_has ls 2 [(0, .ref l0), (1, .int l1)] := hl
  exact wJ23_init_b0 hk hc l0 l1 S _ _ ls 0 0 C N (by omega) (by omega) hH va_S.rf (lv_sub hl [0, 1] rfl) hf
end
section
variable {r : Option Nat} {Sf : gS}
def fJ23_valueOf_b23 (G : gG) (l0 : Int32) (S : gS) : gO (Option Nat) :=
  nw S (cO 26 [.int 0]) 1 fun S1 =>
  gb (fJ23_init G S.2 l0 S1) fun _ S2 =>
  some ((some S.2), S2, 0, 0)
theorem wJ23_valueOf_b23 (hk : rOK Rp) (hc : gC p s m args meth c G RJ23 "valueOf" cJ23_valueOf 1 (some (.object "java/lang/Integer"))) (l0 : Int32) (S : gS) (H : Heap) (locs : List Loc) (ls : Array Slot) (kc ks C N : Nat) (hkc : kc + C ≤ mc) (hks : ks + N ≤ ms) (hH : hp G Rp S H) (hS : va_S G.2.2.2 s.heap H locs) (hl : lv_has ls 1 [(0, .int l0)]) (hf : fJ23_valueOf_b23 G l0 S = some (r, Sf, C, N)) : W p l e (gR 3 101 mc ms) s m args below meth c H locs kc ks (gQ below G Rp (some (va_rf r)) Sf args s mc ms) (F0 m 23 ls []) := by
  obtain ⟨hx, hb, hr, hlk, hml, hown, hts, hE, hA, hnm⟩ := hc
  have hc : gC p s m args meth c G RJ23 "valueOf" cJ23_valueOf 1 (some (.object "java/lang/Integer")) := ⟨hx, hb, hr, hlk, hml, hown, hts, hE, hA, hnm⟩
  unfold fJ23_valueOf_b23 at hf
  obtain ⟨S1, c2_1, n2_1, eS1, hf, hC1, hN1⟩ := nwo hf
  refine g_newo (pc := 23) (ci := 26) (C := RJ23) (T := TJ23) (N := 1) (fs := [.int 0]) hx hb hts hown hE hA hk hH hS in_J23 tyJ23_ok q1832 q2631 q126 rfl (fun j hj => by rcases (show j = 0 by omega) with rfl; rfl) eS1 (Nat.le_trans (by omega) hkc) (Nat.le_trans (by omega) hks) dJ23_valueOf_23 (fun H hH hS => ?_)
  have hkc : kc + 1 + c2_1 ≤ mc := by omega
  have hks : ks + 1 + n2_1 ≤ ms := by omega
  refine lv_dup (pc := 26) hx hb dJ23_valueOf_26 rfl ?_
  refine lv_iload_n (pc := 27) hx hb dJ23_valueOf_27 rfl (lv_at hl 0 rfl) ?_
  obtain ⟨_, S2, c2, n2, c2_2, n2_2, e2, hf, hC2, hN2⟩ := gbo hf
  refine g_callI (pc := 28) (o := (some S.2)) (b := S.2) (As := [.int l0]) (rest := [.ref S.2]) hc (mJ23_init hk (l0 := S.2) (l1 := l0) e2) (cwI 1 hts (lw_meth q2634) rfl rfl rfl (hts _ q126) (hts _ q2632) (hts _ q2633) rfl jhdiJ23_init ⟨Nat.le_of_ble_eq_true rfl, Nat.le_of_ble_eq_true rfl⟩) rfl rfl hl.1 rfl (lv_room (Nat.le_of_ble_eq_true rfl)) dJ23_valueOf_28 hH hS (by omega) (by omega) (fun H locs hH hS => ?_)
  have hkc : kc + 1 + c2 + c2_2 ≤ mc := by omega
  have hks : ks + 1 + n2 + n2_2 ≤ ms := by omega
  exact g_aret (pc := 31) (v := (some S.2)) hx hb hr (Or.inl ⟨_, rfl⟩) hlk hH hS hkc hks hf dJ23_valueOf_31
def fJ23_valueOf (G : gG) (l0 : Int32) (S : gS) : gO (Option Nat) :=
  if l0 < (-128) then
    fJ23_valueOf_b23 G l0 S
  else
    if (nI 127) < l0 then
      fJ23_valueOf_b23 G l0 S
    else
      bd (kCache G (l0 + (nI 128))) fun v3 =>
      some ((some v3), S, 0, 0)
theorem wJ23_valueOf_b0 (hk : rOK Rp) (hc : gC p s m args meth c G RJ23 "valueOf" cJ23_valueOf 1 (some (.object "java/lang/Integer"))) (l0 : Int32) (S : gS) (H : Heap) (locs : List Loc) (ls : Array Slot) (kc ks C N : Nat) (hkc : kc + C ≤ mc) (hks : ks + N ≤ ms) (hH : hp G Rp S H) (hS : va_S G.2.2.2 s.heap H locs) (hl : lv_has ls 1 [(0, .int l0)]) (hf : fJ23_valueOf G l0 S = some (r, Sf, C, N)) : W p l e (gR 3 101 mc ms) s m args below meth c H locs kc ks (gQ below G Rp (some (va_rf r)) Sf args s mc ms) (F0 m 0 ls []) := by
  obtain ⟨hx, hb, hr, hlk, hml, hown, hts, hE, hA, hnm⟩ := hc
  have hc : gC p s m args meth c G RJ23 "valueOf" cJ23_valueOf 1 (some (.object "java/lang/Integer")) := ⟨hx, hb, hr, hlk, hml, hown, hts, hE, hA, hnm⟩
  unfold fJ23_valueOf at hf
  refine lv_iload_n (pc := 0) hx hb dJ23_valueOf_0 rfl (lv_at hl 0 rfl) ?_
  refine lv_bipush (pc := 1) (v := -128) hx hb dJ23_valueOf_1 jgkbm128 ?_
  refine lv_icmp_lt (pc := 3) (tgt := 23) hx hb dJ23_valueOf_3 (by decide) (fun c1 => ?_) (fun c1 => ?_)
  · rw [if_pos c1] at hf
    exact wJ23_valueOf_b23 hk hc l0 S _ _ ls _ _ _ _ hkc hks hH hS (lv_sub hl [0] rfl) hf
  · rw [if_neg c1] at hf
    refine lv_iload_n (pc := 6) hx hb dJ23_valueOf_6 rfl (lv_at hl 0 rfl) ?_
    refine g_high (pc := 7) hx hb hE hS hown (hts _ q2627) dJ23_valueOf_7 ?_
    refine lv_icmp_gt (pc := 10) (tgt := 23) hx hb dJ23_valueOf_10 (by decide) (fun c2 => ?_) (fun c2 => ?_)
    · rw [if_pos c2] at hf
      exact wJ23_valueOf_b23 hk hc l0 S _ _ ls _ _ _ _ hkc hks hH hS (lv_sub hl [0] rfl) hf
    · rw [if_neg c2] at hf
      refine g_cacheA (pc := 13) hx hb hE hS hown (hts _ q2629) dJ23_valueOf_13 ?_
      refine lv_iload_n (pc := 16) hx hb dJ23_valueOf_16 rfl (lv_at hl 0 rfl) ?_
      refine lv_sipush (pc := 17) (v := nI 128) hx hb dJ23_valueOf_17 jgks128 ?_
      refine lv_iadd (pc := 20) hx hb dJ23_valueOf_20 ?_
      obtain ⟨v3, e3, hf⟩ := bdo hf
      refine g_cacheL (pc := 21) hx hb hE hS e3 dJ23_valueOf_21 ?_
      exact g_aret (pc := 22) (v := (some v3)) hx hb hr (Or.inl ⟨_, rfl⟩) hlk hH hS hkc hks hf dJ23_valueOf_22
theorem mJ23_valueOf {l : Launch} {G : gG} {Rp : gM → gM → Nat → Prop} (hk : rOK Rp) {S S2 : gS} {r2 : Option Nat} {C N : Nat} {l0 : Int32} (hf : fJ23_valueOf G l0 S = some (r2, S2, C, N)) : gMet l yJ23_valueOf cJ23_valueOf 1 (some (.object "java/lang/Integer")) 3 101 G Rp [.int l0] S (some (va_rf r2)) S2 C N := by
  refine g_start (by decide) (Nat.le_of_ble_eq_true rfl) (fun p e s m args below meth c ls hc hl hH => ?_)
  have hl : lv_has ls 1 [(0, .int l0)] := hl
  exact wJ23_valueOf_b0 hk hc l0 S _ _ ls 0 0 C N (by omega) (by omega) hH va_S.rf (lv_sub hl [0] rfl) hf
end
section
variable {r : Int32} {Sf : gS}
def fJ23_intValue (G : gG) (l0 : Nat) (S : gS) : gO Int32 :=
  bd (intV G S l0) fun v1 =>
  some (v1, S, 0, 0)
theorem wJ23_intValue_b0 (hk : rOK Rp) (hc : gC p s m args meth c G RJ23 "intValue" cJ23_intValue 1 (some .int)) (l0 : Nat) (S : gS) (H : Heap) (locs : List Loc) (ls : Array Slot) (kc ks C N : Nat) (hkc : kc + C ≤ mc) (hks : ks + N ≤ ms) (hH : hp G Rp S H) (hS : va_S G.2.2.2 s.heap H locs) (hl : lv_has ls 1 [(0, .ref l0)]) (hf : fJ23_intValue G l0 S = some (r, Sf, C, N)) : W p l e (gR 1 60 mc ms) s m args below meth c H locs kc ks (gQ below G Rp (some (.int r)) Sf args s mc ms) (F0 m 0 ls []) := by
  obtain ⟨hx, hb, hr, hlk, hml, hown, hts, hE, hA, hnm⟩ := hc
  have hc : gC p s m args meth c G RJ23 "intValue" cJ23_intValue 1 (some .int) := ⟨hx, hb, hr, hlk, hml, hown, hts, hE, hA, hnm⟩
  unfold fJ23_intValue at hf
  refine lv_aload_n (pc := 0) hx hb dJ23_intValue_0 rfl (lv_at hl 0 rfl) ?_
  obtain ⟨v1, e1, hf⟩ := bdo hf
  refine g_intV (pc := 1) (o := (some l0)) (a := l0) hx hb hts hown hE hk hH hS q2639 rfl e1 dJ23_intValue_1 ?_
  exact g_iret (pc := 4) hx hb hr hlk hH hS hkc hks hf dJ23_intValue_4
theorem mJ23_intValue {l : Launch} {G : gG} {Rp : gM → gM → Nat → Prop} (hk : rOK Rp) {S S2 : gS} {r2 : Int32} {C N : Nat} {l0 : Nat} (hf : fJ23_intValue G l0 S = some (r2, S2, C, N)) : gMet l yJ23_intValue cJ23_intValue 1 (some .int) 1 60 G Rp [.ref l0] S (some (.int r2)) S2 C N := by
  refine g_start (by decide) (Nat.le_of_ble_eq_true rfl) (fun p e s m args below meth c ls hc hl hH => ?_)
  have hl : lv_has ls 1 [(0, .ref l0)] := hl
  exact wJ23_intValue_b0 hk hc l0 S _ _ ls 0 0 C N (by omega) (by omega) hH va_S.rf (lv_sub hl [0] rfl) hf
end
section
variable {r : Int32} {Sf : gS}
def fJ9_coder (G : gG) (l0 : Nat) (S : gS) : gO Int32 :=
  if (nI 1) = 0 then
    bg (nI 1) S
  else
    bd (strC G S l0) fun v2 =>
    bg v2 S
theorem wJ9_coder_b0 (hk : rOK Rp) (hc : gC p s m args meth c G RJ9 "coder" cJ9_coder 1 (some .byte)) (l0 : Nat) (S : gS) (H : Heap) (locs : List Loc) (ls : Array Slot) (kc ks C N : Nat) (hkc : kc + C ≤ mc) (hks : ks + N ≤ ms) (hH : hp G Rp S H) (hS : va_S G.2.2.2 s.heap H locs) (hl : lv_has ls 1 [(0, .ref l0)]) (hf : fJ9_coder G l0 S = some (r, Sf, C, N)) : W p l e (gR 1 60 mc ms) s m args below meth c H locs kc ks (gQ below G Rp (some (.int r)) Sf args s mc ms) (F0 m 0 ls []) := by
  obtain ⟨hx, hb, hr, hlk, hml, hown, hts, hE, hA, hnm⟩ := hc
  have hc : gC p s m args meth c G RJ9 "coder" cJ9_coder 1 (some .byte) := ⟨hx, hb, hr, hlk, hml, hown, hts, hE, hA, hnm⟩
  unfold fJ9_coder at hf
  refine g_compact (pc := 0) hx hb hE hS hown (hts _ q725) dJ9_coder_0 ?_
  refine lv_if_eq (pc := 3) (tgt := 13) hx hb dJ9_coder_3 (by decide) (fun c1 => ?_) (fun c1 => ?_)
  · rw [if_pos c1] at hf
    refine lv_iconst (pc := 13) (v := nI 1) hx hb dJ9_coder_13 rfl ?_
    exact g_bret (pc := 14) hx hb hr hlk hH hS hkc hks hf dJ9_coder_14
  · rw [if_neg c1] at hf
    refine lv_aload_n (pc := 6) hx hb dJ9_coder_6 rfl (lv_at hl 0 rfl) ?_
    obtain ⟨v2, e2, hf⟩ := bdo hf
    refine g_strC (pc := 7) (o := (some l0)) (a := l0) hx hb hts hown hE hk hH hS q835 rfl e2 dJ9_coder_7 ?_
    refine lv_goto (pc := 10) (tgt := 14) hx hb dJ9_coder_10 (by decide) ?_
    exact g_bret (pc := 14) hx hb hr hlk hH hS hkc hks hf dJ9_coder_14
theorem mJ9_coder {l : Launch} {G : gG} {Rp : gM → gM → Nat → Prop} (hk : rOK Rp) {S S2 : gS} {r2 : Int32} {C N : Nat} {l0 : Nat} (hf : fJ9_coder G l0 S = some (r2, S2, C, N)) : gMet l yJ9_coder cJ9_coder 1 (some .byte) 1 60 G Rp [.ref l0] S (some (.int r2)) S2 C N := by
  refine g_start (by decide) (Nat.le_of_ble_eq_true rfl) (fun p e s m args below meth c ls hc hl hH => ?_)
  have hl : lv_has ls 1 [(0, .ref l0)] := hl
  exact wJ9_coder_b0 hk hc l0 S _ _ ls 0 0 C N (by omega) (by omega) hH va_S.rf (lv_sub hl [0] rfl) hf
end
section
variable {r : Int32} {Sf : gS}
def fJ9_length (G : gG) (l0 : Nat) (S : gS) : gO Int32 :=
  bd (strV G S l0) fun v1 =>
  bd v1 fun a2 =>
  bd (lenB G S a2) fun v3 =>
  bd (chS G S l0) fun _ =>
  gb (fJ9_coder G l0 S) fun v4 S4 =>
  some (v3 >>> (v4 &&& 31), S4, 0, 0)
theorem wJ9_length_b0 (hk : rOK Rp) (hc : gC p s m args meth c G RJ9 "length" cJ9_length 1 (some .int)) (l0 : Nat) (S : gS) (H : Heap) (locs : List Loc) (ls : Array Slot) (kc ks C N : Nat) (hkc : kc + C ≤ mc) (hks : ks + N ≤ ms) (hH : hp G Rp S H) (hS : va_S G.2.2.2 s.heap H locs) (hl : lv_has ls 1 [(0, .ref l0)]) (hf : fJ9_length G l0 S = some (r, Sf, C, N)) : W p l e (gR 2 80 mc ms) s m args below meth c H locs kc ks (gQ below G Rp (some (.int r)) Sf args s mc ms) (F0 m 0 ls []) := by
  obtain ⟨hx, hb, hr, hlk, hml, hown, hts, hE, hA, hnm⟩ := hc
  have hc : gC p s m args meth c G RJ9 "length" cJ9_length 1 (some .int) := ⟨hx, hb, hr, hlk, hml, hown, hts, hE, hA, hnm⟩
  unfold fJ9_length at hf
  refine lv_aload_n (pc := 0) hx hb dJ9_length_0 rfl (lv_at hl 0 rfl) ?_
  obtain ⟨v1, e1, hf⟩ := bdo hf
  refine g_strV (pc := 1) (o := (some l0)) (a := l0) hx hb hts hown hE hk hH hS q834 rfl e1 dJ9_length_1 ?_
  obtain ⟨a2, ea2, hf⟩ := bdo hf
  obtain ⟨v3, e3, hf⟩ := bdo hf
  refine g_lenB (pc := 4) (o := v1) (a := a2) hx hb hE hk hH hS ea2 e3 dJ9_length_4 ?_
  refine lv_aload_n (pc := 5) hx hb dJ9_length_5 rfl (lv_at hl 0 rfl) ?_
  obtain ⟨_, ek4, hf⟩ := bdo hf
  obtain ⟨v4, S4, c4, n4, c2_4, n2_4, e4, hf, hC4, hN4⟩ := gbo hf
  refine g_callV (pc := 6) (o := (some l0)) (b := l0) (As := []) (rest := [.int v3]) (st1 := [.int v4, .int v3]) hc (mJ9_coder hk (l0 := l0) e4) (cwV 0 hts (lw_V q721 q722 q723 q110 q724) rfl rfl rfl jhdJ9_coder ⟨Nat.le_of_ble_eq_true rfl, Nat.le_of_ble_eq_true rfl⟩) (g_recvS hE hk hH hS ek4) rfl rfl hl.1 rfl rfl (lv_room (Nat.le_of_ble_eq_true rfl)) dJ9_length_6 hH hS (by omega) (by omega) (fun H locs hH hS => ?_)
  have hkc : kc + c4 + c2_4 ≤ mc := by omega
  have hks : ks + n4 + n2_4 ≤ ms := by omega
  refine lv_ishr (pc := 9) hx hb dJ9_length_9 ?_
  exact g_iret (pc := 10) hx hb hr hlk hH hS hkc hks hf dJ9_length_10
theorem mJ9_length {l : Launch} {G : gG} {Rp : gM → gM → Nat → Prop} (hk : rOK Rp) {S S2 : gS} {r2 : Int32} {C N : Nat} {l0 : Nat} (hf : fJ9_length G l0 S = some (r2, S2, C, N)) : gMet l yJ9_length cJ9_length 1 (some .int) 2 80 G Rp [.ref l0] S (some (.int r2)) S2 C N := by
  refine g_start (by decide) (Nat.le_of_ble_eq_true rfl) (fun p e s m args below meth c ls hc hl hH => ?_)
  have hl : lv_has ls 1 [(0, .ref l0)] := hl
  exact wJ9_length_b0 hk hc l0 S _ _ ls 0 0 C N (by omega) (by omega) hH va_S.rf (lv_sub hl [0] rfl) hf
end
section
variable {r : Int32} {Sf : gS}
def fJ9_isLatin1 (G : gG) (l0 : Nat) (S : gS) : gO Int32 :=
  if (nI 1) = 0 then
    zg (nI 0) S
  else
    bd (strC G S l0) fun v2 =>
    if v2 = 0 then
      zg (nI 1) S
    else
      zg (nI 0) S
theorem wJ9_isLatin1_b0 (hk : rOK Rp) (hc : gC p s m args meth c G RJ9 "isLatin1" cJ9_isLatin1 1 (some .boolean)) (l0 : Nat) (S : gS) (H : Heap) (locs : List Loc) (ls : Array Slot) (kc ks C N : Nat) (hkc : kc + C ≤ mc) (hks : ks + N ≤ ms) (hH : hp G Rp S H) (hS : va_S G.2.2.2 s.heap H locs) (hl : lv_has ls 1 [(0, .ref l0)]) (hf : fJ9_isLatin1 G l0 S = some (r, Sf, C, N)) : W p l e (gR 1 60 mc ms) s m args below meth c H locs kc ks (gQ below G Rp (some (.int r)) Sf args s mc ms) (F0 m 0 ls []) := by
  obtain ⟨hx, hb, hr, hlk, hml, hown, hts, hE, hA, hnm⟩ := hc
  have hc : gC p s m args meth c G RJ9 "isLatin1" cJ9_isLatin1 1 (some .boolean) := ⟨hx, hb, hr, hlk, hml, hown, hts, hE, hA, hnm⟩
  unfold fJ9_isLatin1 at hf
  refine g_compact (pc := 0) hx hb hE hS hown (hts _ q725) dJ9_isLatin1_0 ?_
  refine lv_if_eq (pc := 3) (tgt := 17) hx hb dJ9_isLatin1_3 (by decide) (fun c1 => ?_) (fun c1 => ?_)
  · rw [if_pos c1] at hf
    refine lv_iconst (pc := 17) (v := nI 0) hx hb dJ9_isLatin1_17 rfl ?_
    exact g_zret (pc := 18) hx hb hr hlk hH hS hkc hks hf dJ9_isLatin1_18
  · rw [if_neg c1] at hf
    refine lv_aload_n (pc := 6) hx hb dJ9_isLatin1_6 rfl (lv_at hl 0 rfl) ?_
    obtain ⟨v2, e2, hf⟩ := bdo hf
    refine g_strC (pc := 7) (o := (some l0)) (a := l0) hx hb hts hown hE hk hH hS q835 rfl e2 dJ9_isLatin1_7 ?_
    refine lv_if_ne (pc := 10) (tgt := 17) hx hb dJ9_isLatin1_10 (by decide) (fun c3 => ?_) (fun c3 => ?_)
    · rw [if_neg c3] at hf
      refine lv_iconst (pc := 17) (v := nI 0) hx hb dJ9_isLatin1_17 rfl ?_
      exact g_zret (pc := 18) hx hb hr hlk hH hS hkc hks hf dJ9_isLatin1_18
    · rw [if_pos c3] at hf
      refine lv_iconst (pc := 13) (v := nI 1) hx hb dJ9_isLatin1_13 rfl ?_
      refine lv_goto (pc := 14) (tgt := 18) hx hb dJ9_isLatin1_14 (by decide) ?_
      exact g_zret (pc := 18) hx hb hr hlk hH hS hkc hks hf dJ9_isLatin1_18
theorem mJ9_isLatin1 {l : Launch} {G : gG} {Rp : gM → gM → Nat → Prop} (hk : rOK Rp) {S S2 : gS} {r2 : Int32} {C N : Nat} {l0 : Nat} (hf : fJ9_isLatin1 G l0 S = some (r2, S2, C, N)) : gMet l yJ9_isLatin1 cJ9_isLatin1 1 (some .boolean) 1 60 G Rp [.ref l0] S (some (.int r2)) S2 C N := by
  refine g_start (by decide) (Nat.le_of_ble_eq_true rfl) (fun p e s m args below meth c ls hc hl hH => ?_)
  have hl : lv_has ls 1 [(0, .ref l0)] := hl
  exact wJ9_isLatin1_b0 hk hc l0 S _ _ ls 0 0 C N (by omega) (by omega) hH va_S.rf (lv_sub hl [0] rfl) hf
end
section
variable {r : Unit} {Sf : gS}
def fJ9_checkIndex (G : gG) (l0 : Int32) (l1 : Int32) (S : gS) : gO Unit :=
  gb (fJ20_checkIndex G l0 l1 (kO (G.2.2.1 15)) S) fun v1 S1 =>
  some ((), S1, 0, 0)
theorem wJ9_checkIndex_b0 (hk : rOK Rp) (hc : gC p s m args meth c G RJ9 "checkIndex" cJ9_checkIndex 2 (none)) (l0 : Int32) (l1 : Int32) (S : gS) (H : Heap) (locs : List Loc) (ls : Array Slot) (kc ks C N : Nat) (hkc : kc + C ≤ mc) (hks : ks + N ≤ ms) (hH : hp G Rp S H) (hS : va_S G.2.2.2 s.heap H locs) (hl : lv_has ls 2 [(0, .int l0), (1, .int l1)]) (hf : fJ9_checkIndex G l0 l1 S = some (r, Sf, C, N)) : W p l e (gR 2 82 mc ms) s m args below meth c H locs kc ks (gQ below G Rp none Sf args s mc ms) (F0 m 0 ls []) := by
  obtain ⟨hx, hb, hr, hlk, hml, hown, hts, hE, hA, hnm⟩ := hc
  have hc : gC p s m args meth c G RJ9 "checkIndex" cJ9_checkIndex 2 (none) := ⟨hx, hb, hr, hlk, hml, hown, hts, hE, hA, hnm⟩
  unfold fJ9_checkIndex at hf
  refine lv_iload_n (pc := 0) hx hb dJ9_checkIndex_0 rfl (lv_at hl 0 rfl) ?_
  refine lv_iload_n (pc := 1) hx hb dJ9_checkIndex_1 rfl (lv_at hl 1 rfl) ?_
  refine g_sioobe (pc := 2) hx hb hE hS hown (hts _ q703) dJ9_checkIndex_2 ?_
  obtain ⟨v1, S1, c1, n1, c2_1, n2_1, e1, hf, hC1, hN1⟩ := gbo hf
  refine g_callS (pc := 5) (As := [.int l0, .int l1, va_rf (kO (G.2.2.1 15))]) (rest := []) (st1 := [.int v1]) hc (mJ20_checkIndex hk (l0 := l0) (l1 := l1) (l2 := (kO (G.2.2.1 15))) e1) (va_cwS 3 hts (lw_S q972 q973 q123 q974) rfl rfl rfl jhdJ20_checkIndex ⟨Nat.le_of_ble_eq_true rfl, Nat.le_of_ble_eq_true rfl⟩) rfl hl.1 rfl rfl (lv_room (Nat.le_of_ble_eq_true rfl)) dJ9_checkIndex_5 hH hS (by omega) (by omega) (fun H locs hH hS => ?_)
  have hkc : kc + c1 + c2_1 ≤ mc := by omega
  have hks : ks + n1 + n2_1 ≤ ms := by omega
  refine lv_pop (pc := 8) hx hb dJ9_checkIndex_8 rfl ?_
  exact g_vret (pc := 9) hx hb hr hlk hH hS hkc hks hf dJ9_checkIndex_9
theorem mJ9_checkIndex {l : Launch} {G : gG} {Rp : gM → gM → Nat → Prop} (hk : rOK Rp) {S S2 : gS} {r2 : Unit} {C N : Nat} {l0 : Int32} {l1 : Int32} (hf : fJ9_checkIndex G l0 l1 S = some (r2, S2, C, N)) : gMet l yJ9_checkIndex cJ9_checkIndex 2 (none) 2 82 G Rp [.int l0, .int l1] S none S2 C N := by
  refine g_start (by decide) (Nat.le_of_ble_eq_true rfl) (fun p e s m args below meth c ls hc hl hH => ?_)
  have hl : lv_has ls 2 [(0, .int l0), (1, .int l1)] := hl
  exact wJ9_checkIndex_b0 hk hc l0 l1 S _ _ ls 0 0 C N (by omega) (by omega) hH va_S.rf (lv_sub hl [0, 1] rfl) hf
end
section
variable {r : Int32} {Sf : gS}
def fJ21_charAt (G : gG) (l0 : Option Nat) (l1 : Int32) (S : gS) : gO Int32 :=
  bd l0 fun a1 =>
  bd (lenB G S a1) fun v2 =>
  gb (fJ9_checkIndex G l1 v2 S) fun _ S3 =>
  bd (rdB G S3 a1 l1) fun v4 =>
  cg (((v4 &&& (nI 255)).toUInt32 % 65536).toInt32) S3
theorem wJ21_charAt_b0 (hk : rOK Rp) (hc : gC p s m args meth c G RJ21 "charAt" cJ21_charAt 2 (some .char)) (l0 : Option Nat) (l1 : Int32) (S : gS) (H : Heap) (locs : List Loc) (ls : Array Slot) (kc ks C N : Nat) (hkc : kc + C ≤ mc) (hks : ks + N ≤ ms) (hH : hp G Rp S H) (hS : va_S G.2.2.2 s.heap H locs) (hl : lv_has ls 2 [(0, va_rf l0), (1, .int l1)]) (hf : fJ21_charAt G l0 l1 S = some (r, Sf, C, N)) : W p l e (gR 3 103 mc ms) s m args below meth c H locs kc ks (gQ below G Rp (some (.int r)) Sf args s mc ms) (F0 m 0 ls []) := by
  obtain ⟨hx, hb, hr, hlk, hml, hown, hts, hE, hA, hnm⟩ := hc
  have hc : gC p s m args meth c G RJ21 "charAt" cJ21_charAt 2 (some .char) := ⟨hx, hb, hr, hlk, hml, hown, hts, hE, hA, hnm⟩
  unfold fJ21_charAt at hf
  refine lv_iload_n (pc := 0) hx hb dJ21_charAt_0 rfl (lv_at hl 1 rfl) ?_
  refine g_aload_n (pc := 1) (o := l0) hx hb dJ21_charAt_1 rfl (lv_at hl 0 rfl) ?_
  obtain ⟨a1, ea1, hf⟩ := bdo hf
  obtain ⟨v2, e2, hf⟩ := bdo hf
  refine g_lenB (pc := 2) (o := l0) (a := a1) hx hb hE hk hH hS ea1 e2 dJ21_charAt_2 ?_
  obtain ⟨_, S3, c3, n3, c2_3, n2_3, e3, hf, hC3, hN3⟩ := gbo hf
  refine g_callS (pc := 3) (As := [.int l1, .int v2]) (rest := []) (st1 := []) hc (mJ9_checkIndex hk (l0 := l1) (l1 := v2) e3) (va_cwS 2 hts (lw_S q2554 q970 q110 q971) rfl rfl rfl jhdJ9_checkIndex ⟨Nat.le_of_ble_eq_true rfl, Nat.le_of_ble_eq_true rfl⟩) rfl hl.1 rfl rfl (lv_room (Nat.le_of_ble_eq_true rfl)) dJ21_charAt_3 hH hS (by omega) (by omega) (fun H locs hH hS => ?_)
  have hkc : kc + c3 + c2_3 ≤ mc := by omega
  have hks : ks + n3 + n2_3 ≤ ms := by omega
  refine g_aload_n (pc := 6) (o := l0) hx hb dJ21_charAt_6 rfl (lv_at hl 0 rfl) ?_
  refine lv_iload_n (pc := 7) hx hb dJ21_charAt_7 rfl (lv_at hl 1 rfl) ?_
  obtain ⟨v4, e4, hf⟩ := bdo hf
  refine g_rdB (pc := 8) (o := l0) (a := a1) hx hb hE hk hH hS ea1 e4 dJ21_charAt_8 ?_
  refine lv_sipush (pc := 9) (v := nI 255) hx hb dJ21_charAt_9 jgks255 ?_
  refine lv_iand (pc := 12) hx hb dJ21_charAt_12 ?_
  refine lv_i2c (pc := 13) hx hb dJ21_charAt_13 rfl ?_
  exact g_cret (pc := 14) hx hb hr hlk hH hS hkc hks hf dJ21_charAt_14
theorem mJ21_charAt {l : Launch} {G : gG} {Rp : gM → gM → Nat → Prop} (hk : rOK Rp) {S S2 : gS} {r2 : Int32} {C N : Nat} {l0 : Option Nat} {l1 : Int32} (hf : fJ21_charAt G l0 l1 S = some (r2, S2, C, N)) : gMet l yJ21_charAt cJ21_charAt 2 (some .char) 3 103 G Rp [va_rf l0, .int l1] S (some (.int r2)) S2 C N := by
  refine g_start (by decide) (by simp [lg_sl, va_rf_cat, cat_i, cat_j, cat_r]) (fun p e s m args below meth c ls hc hl hH => ?_)
  have hl : lv_has ls 2 [(0, va_rf l0), (1, .int l1)] := by simpa [lv_args, va_rf_cat, cat_i, cat_j, cat_r] using hl
  exact wJ21_charAt_b0 hk hc l0 l1 S _ _ ls 0 0 C N (by omega) (by omega) hH va_S.rf (lv_sub hl [0, 1] rfl) hf
end
section
variable {r : Int32} {Sf : gS}
def fJ9_charAt (G : gG) (l0 : Nat) (l1 : Int32) (S : gS) : gO Int32 :=
  bd (chS G S l0) fun _ =>
  gb (fJ9_isLatin1 G l0 S) fun v1 S1 =>
  if v1 = 0 then
    bd (strV G S1 l0) fun v3 =>
    none
  else
    bd (strV G S1 l0) fun v4 =>
    gb (fJ21_charAt G v4 l1 S1) fun v5 S5 =>
    cg v5 S5
theorem wJ9_charAt_b0 (hk : rOK Rp) (hc : gC p s m args meth c G RJ9 "charAt" cJ9_charAt 2 (some .char)) (l0 : Nat) (l1 : Int32) (S : gS) (H : Heap) (locs : List Loc) (ls : Array Slot) (kc ks C N : Nat) (hkc : kc + C ≤ mc) (hks : ks + N ≤ ms) (hH : hp G Rp S H) (hS : va_S G.2.2.2 s.heap H locs) (hl : lv_has ls 2 [(0, .ref l0), (1, .int l1)]) (hf : fJ9_charAt G l0 l1 S = some (r, Sf, C, N)) : W p l e (gR 4 124 mc ms) s m args below meth c H locs kc ks (gQ below G Rp (some (.int r)) Sf args s mc ms) (F0 m 0 ls []) := by
  obtain ⟨hx, hb, hr, hlk, hml, hown, hts, hE, hA, hnm⟩ := hc
  have hc : gC p s m args meth c G RJ9 "charAt" cJ9_charAt 2 (some .char) := ⟨hx, hb, hr, hlk, hml, hown, hts, hE, hA, hnm⟩
  unfold fJ9_charAt at hf
  refine lv_aload_n (pc := 0) hx hb dJ9_charAt_0 rfl (lv_at hl 0 rfl) ?_
  obtain ⟨_, ek1, hf⟩ := bdo hf
  obtain ⟨v1, S1, c1, n1, c2_1, n2_1, e1, hf, hC1, hN1⟩ := gbo hf
  refine g_callV (pc := 1) (o := (some l0)) (b := l0) (As := []) (rest := []) (st1 := [.int v1]) hc (mJ9_isLatin1 hk (l0 := l0) e1) (cwV 0 hts (lw_V q2547 q2548 q2549 q110 q2550) rfl rfl rfl jhdJ9_isLatin1 ⟨Nat.le_of_ble_eq_true rfl, Nat.le_of_ble_eq_true rfl⟩) (g_recvS hE hk hH hS ek1) rfl rfl hl.1 rfl rfl (lv_room (Nat.le_of_ble_eq_true rfl)) dJ9_charAt_1 hH hS (by omega) (by omega) (fun H locs hH hS => ?_)
  have hkc : kc + c1 + c2_1 ≤ mc := by omega
  have hks : ks + n1 + n2_1 ≤ ms := by omega
  refine lv_if_eq (pc := 4) (tgt := 16) hx hb dJ9_charAt_4 (by decide) (fun c2 => ?_) (fun c2 => ?_)
  · rw [if_pos c2] at hf
    refine lv_aload_n (pc := 16) hx hb dJ9_charAt_16 rfl (lv_at hl 0 rfl) ?_
    obtain ⟨v3, e3, hf⟩ := bdo hf
    refine g_strV (pc := 17) (o := (some l0)) (a := l0) hx hb hts hown hE hk hH hS q834 rfl e3 dJ9_charAt_17 ?_
    refine lv_iload_n (pc := 20) hx hb dJ9_charAt_20 rfl (lv_at hl 1 rfl) ?_
    exact absurd hf (fun h => by cases h)
  · rw [if_neg c2] at hf
    refine lv_aload_n (pc := 7) hx hb dJ9_charAt_7 rfl (lv_at hl 0 rfl) ?_
    obtain ⟨v4, e4, hf⟩ := bdo hf
    refine g_strV (pc := 8) (o := (some l0)) (a := l0) hx hb hts hown hE hk hH hS q834 rfl e4 dJ9_charAt_8 ?_
    refine lv_iload_n (pc := 11) hx hb dJ9_charAt_11 rfl (lv_at hl 1 rfl) ?_
    obtain ⟨v5, S5, c5, n5, c2_5, n2_5, e5, hf, hC5, hN5⟩ := gbo hf
    refine g_callS (pc := 12) (As := [va_rf v4, .int l1]) (rest := []) (st1 := [.int v5]) hc (mJ21_charAt hk (l0 := v4) (l1 := l1) e5) (va_cwS 2 hts (lw_S q2551 q2552 q124 q2553) rfl rfl rfl jhdJ21_charAt ⟨Nat.le_of_ble_eq_true rfl, Nat.le_of_ble_eq_true rfl⟩) rfl hl.1 rfl rfl (lv_room (Nat.le_of_ble_eq_true rfl)) dJ9_charAt_12 hH hS (by omega) (by omega) (fun H locs hH hS => ?_)
    have hkc : kc + c1 + c5 + c2_5 ≤ mc := by omega
    have hks : ks + n1 + n5 + n2_5 ≤ ms := by omega
    exact g_cret (pc := 15) hx hb hr hlk hH hS hkc hks hf dJ9_charAt_15
theorem mJ9_charAt {l : Launch} {G : gG} {Rp : gM → gM → Nat → Prop} (hk : rOK Rp) {S S2 : gS} {r2 : Int32} {C N : Nat} {l0 : Nat} {l1 : Int32} (hf : fJ9_charAt G l0 l1 S = some (r2, S2, C, N)) : gMet l yJ9_charAt cJ9_charAt 2 (some .char) 4 124 G Rp [.ref l0, .int l1] S (some (.int r2)) S2 C N := by
  refine g_start (by decide) (Nat.le_of_ble_eq_true rfl) (fun p e s m args below meth c ls hc hl hH => ?_)
  have hl : lv_has ls 2 [(0, .ref l0), (1, .int l1)] := hl
  exact wJ9_charAt_b0 hk hc l0 l1 S _ _ ls 0 0 C N (by omega) (by omega) hH va_S.rf (lv_sub hl [0, 1] rfl) hf
end
section
variable {r : Int32} {Sf : gS}
def fJ21_equals_b9 (G : gG) : Nat → (Option Nat) → (Option Nat) → Int32 → gS → gO Int32
  | 0, _, _, _, _ => none
  | n + 1, l0, l1, l2, S =>
    bd l0 fun a1 =>
    bd (lenB G S a1) fun v2 =>
    if v2 ≤ l2 then
      zg (nI 1) S
    else
      bd (rdB G S a1 l2) fun v4 =>
      bd l1 fun a5 =>
      bd (rdB G S a5 l2) fun v6 =>
      if v4 = v6 then
        fJ21_equals_b9 G n l0 l1 (l2 + (nI 1)) S
      else
        zg (nI 0) S
theorem wJ21_equals_b9 (hk : rOK Rp) (hc : gC p s m args meth c G RJ21 "equals" cJ21_equals 3 (some .boolean)) : ∀ (n : Nat) (l0 : Option Nat) (l1 : Option Nat) (l2 : Int32) (S : gS) (H : Heap) (locs : List Loc) (ls : Array Slot) (kc ks C N : Nat), kc + C ≤ mc → ks + N ≤ ms → hp G Rp S H → va_S G.2.2.2 s.heap H locs → lv_has ls 3 [(0, va_rf l0), (1, va_rf l1), (2, .int l2)] → fJ21_equals_b9 G n l0 l1 l2 S = some (r, Sf, C, N) → W p l e (gR 1 60 mc ms) s m args below meth c H locs kc ks (gQ below G Rp (some (.int r)) Sf args s mc ms) (F0 m 9 ls []) := by
  obtain ⟨hx, hb, hr, hlk, hml, hown, hts, hE, hA, hnm⟩ := hc
  have hc : gC p s m args meth c G RJ21 "equals" cJ21_equals 3 (some .boolean) := ⟨hx, hb, hr, hlk, hml, hown, hts, hE, hA, hnm⟩
  intro n
  induction n with
  | zero => intro l0 l1 l2 S H locs ls kc ks C N _ _ _ _ _ hf; exact absurd hf (fun h => by cases h)
  | succ n ih =>
    intro l0 l1 l2 S H locs ls kc ks C N hkc hks hH hS hl hf
    rw [fJ21_equals_b9] at hf
    refine lv_iload_n (pc := 9) hx hb dJ21_equals_9 rfl (lv_at hl 2 rfl) ?_
    refine g_aload_n (pc := 10) (o := l0) hx hb dJ21_equals_10 rfl (lv_at hl 0 rfl) ?_
    obtain ⟨a1, ea1, hf⟩ := bdo hf
    obtain ⟨v2, e2, hf⟩ := bdo hf
    refine g_lenB (pc := 11) (o := l0) (a := a1) hx hb hE hk hH hS ea1 e2 dJ21_equals_11 ?_
    refine lv_icmp_ge (pc := 12) (tgt := 32) hx hb dJ21_equals_12 (by decide) (fun c3 => ?_) (fun c3 => ?_)
    · rw [if_pos c3] at hf
      refine lv_iconst (pc := 32) (v := nI 1) hx hb dJ21_equals_32 rfl ?_
      exact g_zret (pc := 33) hx hb hr hlk hH hS hkc hks hf dJ21_equals_33
    · rw [if_neg c3] at hf
      refine g_aload_n (pc := 15) (o := l0) hx hb dJ21_equals_15 rfl (lv_at hl 0 rfl) ?_
      refine lv_iload_n (pc := 16) hx hb dJ21_equals_16 rfl (lv_at hl 2 rfl) ?_
      obtain ⟨v4, e4, hf⟩ := bdo hf
      refine g_rdB (pc := 17) (o := l0) (a := a1) hx hb hE hk hH hS ea1 e4 dJ21_equals_17 ?_
      refine g_aload_n (pc := 18) (o := l1) hx hb dJ21_equals_18 rfl (lv_at hl 1 rfl) ?_
      refine lv_iload_n (pc := 19) hx hb dJ21_equals_19 rfl (lv_at hl 2 rfl) ?_
      obtain ⟨a5, ea5, hf⟩ := bdo hf
      obtain ⟨v6, e6, hf⟩ := bdo hf
      refine g_rdB (pc := 20) (o := l1) (a := a5) hx hb hE hk hH hS ea5 e6 dJ21_equals_20 ?_
      refine lv_icmp_eq (pc := 21) (tgt := 26) hx hb dJ21_equals_21 (by decide) (fun c7 => ?_) (fun c7 => ?_)
      · rw [if_pos c7] at hf
        refine lv_iinc (pc := 26) (v := l2 + (nI 1)) (lv' := [(2, .int (l2 + (nI 1))), (0, va_rf l0), (1, va_rf l1)]) hx hb dJ21_equals_26 hl (k := 2) rfl rfl (by decide) (by simp [va_rf_cat, cat_i, cat_j, cat_r] <;> rfl) (fun ls hl => ?_)
        refine lv_goto (pc := 29) (tgt := 9) hx hb dJ21_equals_29 (by decide) ?_
        exact ih l0 l1 (l2 + (nI 1)) S _ _ ls _ _ _ _ hkc hks hH hS (lv_sub hl [1, 2, 0] rfl) hf
      · rw [if_neg c7] at hf
        refine lv_iconst (pc := 24) (v := nI 0) hx hb dJ21_equals_24 rfl ?_
        exact g_zret (pc := 25) hx hb hr hlk hH hS hkc hks hf dJ21_equals_25
def fJ21_equals (G : gG) (l0 : Option Nat) (l1 : Option Nat) (S : gS) : gO Int32 :=
  bd l0 fun a1 =>
  bd (lenB G S a1) fun v2 =>
  bd l1 fun a3 =>
  bd (lenB G S a3) fun v4 =>
  if v2 = v4 then
    fJ21_equals_b9 G FU l0 l1 (nI 0) S
  else
    zg (nI 0) S
theorem wJ21_equals_b0 (hk : rOK Rp) (hc : gC p s m args meth c G RJ21 "equals" cJ21_equals 3 (some .boolean)) (l0 : Option Nat) (l1 : Option Nat) (S : gS) (H : Heap) (locs : List Loc) (ls : Array Slot) (kc ks C N : Nat) (hkc : kc + C ≤ mc) (hks : ks + N ≤ ms) (hH : hp G Rp S H) (hS : va_S G.2.2.2 s.heap H locs) (hl : lv_has ls 3 [(0, va_rf l0), (1, va_rf l1)]) (hf : fJ21_equals G l0 l1 S = some (r, Sf, C, N)) : W p l e (gR 1 60 mc ms) s m args below meth c H locs kc ks (gQ below G Rp (some (.int r)) Sf args s mc ms) (F0 m 0 ls []) := by
  obtain ⟨hx, hb, hr, hlk, hml, hown, hts, hE, hA, hnm⟩ := hc
  have hc : gC p s m args meth c G RJ21 "equals" cJ21_equals 3 (some .boolean) := ⟨hx, hb, hr, hlk, hml, hown, hts, hE, hA, hnm⟩
  unfold fJ21_equals at hf
  refine g_aload_n (pc := 0) (o := l0) hx hb dJ21_equals_0 rfl (lv_at hl 0 rfl) ?_
  obtain ⟨a1, ea1, hf⟩ := bdo hf
  obtain ⟨v2, e2, hf⟩ := bdo hf
  refine g_lenB (pc := 1) (o := l0) (a := a1) hx hb hE hk hH hS ea1 e2 dJ21_equals_1 ?_
  refine g_aload_n (pc := 2) (o := l1) hx hb dJ21_equals_2 rfl (lv_at hl 1 rfl) ?_
  obtain ⟨a3, ea3, hf⟩ := bdo hf
  obtain ⟨v4, e4, hf⟩ := bdo hf
  refine g_lenB (pc := 3) (o := l1) (a := a3) hx hb hE hk hH hS ea3 e4 dJ21_equals_3 ?_
  refine lv_icmp_ne (pc := 4) (tgt := 34) hx hb dJ21_equals_4 (by decide) (fun c5 => ?_) (fun c5 => ?_)
  · rw [if_neg c5] at hf
    refine lv_iconst (pc := 34) (v := nI 0) hx hb dJ21_equals_34 rfl ?_
    exact g_zret (pc := 35) hx hb hr hlk hH hS hkc hks hf dJ21_equals_35
  · rw [if_pos c5] at hf
    refine lv_iconst (pc := 7) (v := nI 0) hx hb dJ21_equals_7 rfl ?_
    refine lv_istore_n (pc := 8) (i := 2) (lv' := [(2, .int (nI 0)), (0, va_rf l0), (1, va_rf l1)]) hx hb dJ21_equals_8 rfl hl (by decide) (by simp [va_rf_cat, cat_i, cat_j, cat_r] <;> rfl) (fun ls hl => ?_)
    exact wJ21_equals_b9 hk hc FU l0 l1 (nI 0) S _ _ ls _ _ _ _ hkc hks hH hS (lv_sub hl [1, 2, 0] rfl) hf
theorem mJ21_equals {l : Launch} {G : gG} {Rp : gM → gM → Nat → Prop} (hk : rOK Rp) {S S2 : gS} {r2 : Int32} {C N : Nat} {l0 : Option Nat} {l1 : Option Nat} (hf : fJ21_equals G l0 l1 S = some (r2, S2, C, N)) : gMet l yJ21_equals cJ21_equals 3 (some .boolean) 1 60 G Rp [va_rf l0, va_rf l1] S (some (.int r2)) S2 C N := by
  refine g_start (by decide) (by simp [lg_sl, va_rf_cat, cat_i, cat_j, cat_r]) (fun p e s m args below meth c ls hc hl hH => ?_)
  have hl : lv_has ls 3 [(0, va_rf l0), (1, va_rf l1)] := by simpa [lv_args, va_rf_cat, cat_i, cat_j, cat_r] using hl
  exact wJ21_equals_b0 hk hc l0 l1 S _ _ ls 0 0 C N (by omega) (by omega) hH va_S.rf (lv_sub hl [0, 1] rfl) hf
end
section
variable {r : Int32} {Sf : gS}
def fJ9_equals_b36 (G : gG) (l0 : Nat) (l2 : Option Nat) (S : gS) : gO Int32 :=
  bd (strV G S l0) fun v1 =>
  bd l2 fun a2 =>
  bd (strV G S a2) fun v3 =>
  gb (fJ21_equals G v1 v3 S) fun v4 S4 =>
  if v4 = 0 then
    zg (nI 0) S4
  else
    zg (nI 1) S4
theorem wJ9_equals_b36 (hk : rOK Rp) (hc : gC p s m args meth c G RJ9 "equals" cJ9_equals 3 (some .boolean)) (l0 : Nat) (l2 : Option Nat) (S : gS) (H : Heap) (locs : List Loc) (ls : Array Slot) (kc ks C N : Nat) (hkc : kc + C ≤ mc) (hks : ks + N ≤ ms) (hH : hp G Rp S H) (hS : va_S G.2.2.2 s.heap H locs) (hl : lv_has ls 3 [(0, .ref l0), (2, va_rf l2)]) (hf : fJ9_equals_b36 G l0 l2 S = some (r, Sf, C, N)) : W p l e (gR 2 82 mc ms) s m args below meth c H locs kc ks (gQ below G Rp (some (.int r)) Sf args s mc ms) (F0 m 36 ls []) := by
  obtain ⟨hx, hb, hr, hlk, hml, hown, hts, hE, hA, hnm⟩ := hc
  have hc : gC p s m args meth c G RJ9 "equals" cJ9_equals 3 (some .boolean) := ⟨hx, hb, hr, hlk, hml, hown, hts, hE, hA, hnm⟩
  unfold fJ9_equals_b36 at hf
  refine lv_aload_n (pc := 36) hx hb dJ9_equals_36 rfl (lv_at hl 0 rfl) ?_
  obtain ⟨v1, e1, hf⟩ := bdo hf
  refine g_strV (pc := 37) (o := (some l0)) (a := l0) hx hb hts hown hE hk hH hS q834 rfl e1 dJ9_equals_37 ?_
  refine g_aload_n (pc := 40) (o := l2) hx hb dJ9_equals_40 rfl (lv_at hl 1 rfl) ?_
  obtain ⟨a2, ea2, hf⟩ := bdo hf
  obtain ⟨v3, e3, hf⟩ := bdo hf
  refine g_strV (pc := 41) (o := l2) (a := a2) hx hb hts hown hE hk hH hS q834 ea2 e3 dJ9_equals_41 ?_
  obtain ⟨v4, S4, c4, n4, c2_4, n2_4, e4, hf, hC4, hN4⟩ := gbo hf
  refine g_callS (pc := 44) (As := [va_rf v1, va_rf v3]) (rest := []) (st1 := [.int v4]) hc (mJ21_equals hk (l0 := v1) (l1 := v3) e4) (va_cwS 2 hts (lw_S q1036 q1037 q124 q1038) rfl rfl rfl jhdJ21_equals ⟨Nat.le_of_ble_eq_true rfl, Nat.le_of_ble_eq_true rfl⟩) rfl hl.1 rfl rfl (lv_room (Nat.le_of_ble_eq_true rfl)) dJ9_equals_44 hH hS (by omega) (by omega) (fun H locs hH hS => ?_)
  have hkc : kc + c4 + c2_4 ≤ mc := by omega
  have hks : ks + n4 + n2_4 ≤ ms := by omega
  refine lv_if_eq (pc := 47) (tgt := 54) hx hb dJ9_equals_47 (by decide) (fun c5 => ?_) (fun c5 => ?_)
  · rw [if_pos c5] at hf
    refine lv_iconst (pc := 54) (v := nI 0) hx hb dJ9_equals_54 rfl ?_
    exact g_zret (pc := 55) hx hb hr hlk hH hS hkc hks hf dJ9_equals_55
  · rw [if_neg c5] at hf
    refine lv_iconst (pc := 50) (v := nI 1) hx hb dJ9_equals_50 rfl ?_
    refine lv_goto (pc := 51) (tgt := 55) hx hb dJ9_equals_51 (by decide) ?_
    exact g_zret (pc := 55) hx hb hr hlk hH hS hkc hks hf dJ9_equals_55
def fJ9_equals (G : gG) (l0 : Nat) (l1 : Option Nat) (S : gS) : gO Int32 :=
  if (some l0) = l1 then
    zg (nI 1) S
  else
    bd l1 fun a2 =>
    bd (chS G S a2) fun _ =>
    if (nI 1) = 0 then
      zg (nI 0) S
    else
      bd (chS G S a2) fun _ =>
      if (nI 1) = 0 then
        fJ9_equals_b36 G l0 l1 S
      else
        bd (strC G S l0) fun v7 =>
        bd (strC G S a2) fun v8 =>
        if v7 = v8 then
          fJ9_equals_b36 G l0 l1 S
        else
          zg (nI 0) S
theorem wJ9_equals_b0 (hk : rOK Rp) (hc : gC p s m args meth c G RJ9 "equals" cJ9_equals 3 (some .boolean)) (l0 : Nat) (l1 : Option Nat) (S : gS) (H : Heap) (locs : List Loc) (ls : Array Slot) (kc ks C N : Nat) (hkc : kc + C ≤ mc) (hks : ks + N ≤ ms) (hH : hp G Rp S H) (hS : va_S G.2.2.2 s.heap H locs) (hl : lv_has ls 3 [(0, .ref l0), (1, va_rf l1)]) (hf : fJ9_equals G l0 l1 S = some (r, Sf, C, N)) : W p l e (gR 2 82 mc ms) s m args below meth c H locs kc ks (gQ below G Rp (some (.int r)) Sf args s mc ms) (F0 m 0 ls []) := by
  obtain ⟨hx, hb, hr, hlk, hml, hown, hts, hE, hA, hnm⟩ := hc
  have hc : gC p s m args meth c G RJ9 "equals" cJ9_equals 3 (some .boolean) := ⟨hx, hb, hr, hlk, hml, hown, hts, hE, hA, hnm⟩
  unfold fJ9_equals at hf
  refine lv_aload_n (pc := 0) hx hb dJ9_equals_0 rfl (lv_at hl 0 rfl) ?_
  refine g_aload_n (pc := 1) (o := l1) hx hb dJ9_equals_1 rfl (lv_at hl 1 rfl) ?_
  refine lv_acmp_ne (pc := 2) (rx := (some l0)) (ry := l1) (tgt := 7) hx hb dJ9_equals_2 (by decide) (fun c1 => ?_) (fun c1 => ?_)
  · rw [if_neg c1] at hf
    refine g_aload_n (pc := 7) (o := l1) hx hb dJ9_equals_7 rfl (lv_at hl 1 rfl) ?_
    obtain ⟨a2, ea2, hf⟩ := bdo hf
    obtain ⟨_, e3, hf⟩ := bdo hf
    refine g_insS (pc := 8) (o := l1) (a := a2) hx hb hown hE hk hH hS (hts _ q1035) ea2 e3 dJ9_equals_8 ?_
    refine lv_if_eq (pc := 11) (tgt := 54) hx hb dJ9_equals_11 (by decide) (fun c4 => ?_) (fun c4 => ?_)
    · rw [if_pos c4] at hf
      refine lv_iconst (pc := 54) (v := nI 0) hx hb dJ9_equals_54 rfl ?_
      exact g_zret (pc := 55) hx hb hr hlk hH hS hkc hks hf dJ9_equals_55
    · rw [if_neg c4] at hf
      refine g_aload_n (pc := 14) (o := l1) hx hb dJ9_equals_14 rfl (lv_at hl 1 rfl) ?_
      obtain ⟨_, e5, hf⟩ := bdo hf
      refine g_castS (pc := 15) (o := l1) (a := a2) hx hb hown hE hk hH hS (hts _ q1035) ea2 e5 dJ9_equals_15 ?_
      refine g_astore_n (pc := 18) (i := 2) (o := l1) (lv' := [(2, va_rf l1), (0, .ref l0), (1, va_rf l1)]) hx hb dJ9_equals_18 rfl hl (by decide) (by simp [va_rf_cat, cat_i, cat_j, cat_r] <;> rfl) (fun ls hl => ?_)
      refine g_compact (pc := 19) hx hb hE hS hown (hts _ q725) dJ9_equals_19 ?_
      refine lv_if_eq (pc := 22) (tgt := 36) hx hb dJ9_equals_22 (by decide) (fun c6 => ?_) (fun c6 => ?_)
      · rw [if_pos c6] at hf
        exact wJ9_equals_b36 hk hc l0 l1 S _ _ ls _ _ _ _ hkc hks hH hS (lv_sub hl [1, 0] rfl) hf
      · rw [if_neg c6] at hf
        refine lv_aload_n (pc := 25) hx hb dJ9_equals_25 rfl (lv_at hl 1 rfl) ?_
        obtain ⟨v7, e7, hf⟩ := bdo hf
        refine g_strC (pc := 26) (o := (some l0)) (a := l0) hx hb hts hown hE hk hH hS q835 rfl e7 dJ9_equals_26 ?_
        refine g_aload_n (pc := 29) (o := l1) hx hb dJ9_equals_29 rfl (lv_at hl 0 rfl) ?_
        obtain ⟨v8, e8, hf⟩ := bdo hf
        refine g_strC (pc := 30) (o := l1) (a := a2) hx hb hts hown hE hk hH hS q835 ea2 e8 dJ9_equals_30 ?_
        refine lv_icmp_ne (pc := 33) (tgt := 54) hx hb dJ9_equals_33 (by decide) (fun c9 => ?_) (fun c9 => ?_)
        · rw [if_neg c9] at hf
          refine lv_iconst (pc := 54) (v := nI 0) hx hb dJ9_equals_54 rfl ?_
          exact g_zret (pc := 55) hx hb hr hlk hH hS hkc hks hf dJ9_equals_55
        · rw [if_pos c9] at hf
          exact wJ9_equals_b36 hk hc l0 l1 S _ _ ls _ _ _ _ hkc hks hH hS (lv_sub hl [1, 0] rfl) hf
  · rw [if_pos c1] at hf
    refine lv_iconst (pc := 5) (v := nI 1) hx hb dJ9_equals_5 rfl ?_
    exact g_zret (pc := 6) hx hb hr hlk hH hS hkc hks hf dJ9_equals_6
theorem mJ9_equals {l : Launch} {G : gG} {Rp : gM → gM → Nat → Prop} (hk : rOK Rp) {S S2 : gS} {r2 : Int32} {C N : Nat} {l0 : Nat} {l1 : Option Nat} (hf : fJ9_equals G l0 l1 S = some (r2, S2, C, N)) : gMet l yJ9_equals cJ9_equals 3 (some .boolean) 2 82 G Rp [.ref l0, va_rf l1] S (some (.int r2)) S2 C N := by
  refine g_start (by decide) (by simp [lg_sl, va_rf_cat, cat_i, cat_j, cat_r]) (fun p e s m args below meth c ls hc hl hH => ?_)
  have hl : lv_has ls 3 [(0, .ref l0), (1, va_rf l1)] := by simpa [lv_args, va_rf_cat, cat_i, cat_j, cat_r] using hl
  exact wJ9_equals_b0 hk hc l0 l1 S _ _ ls 0 0 C N (by omega) (by omega) hH va_S.rf (lv_sub hl [0, 1] rfl) hf
end
section
variable {r : Unit} {Sf : gS}
def fJ14_init_c19 (G : gG) (l0 : Nat) (l1 : Int32) (S : gS) : gO Unit :=
  if (nI 1) = 0 then
    none
  else
    nwa S 2 l1 fun S3 =>
    bd (wr S3 l0 19 0 (.ref S.2)) fun S4 =>
    bd (wr S4 l0 19 1 (.int (nI 0))) fun S5 =>
    some ((), S5, 0, 0)
theorem wJ14_init_c19_b0 (hk : rOK Rp) (hc : gC p s m args meth c G RJ14 "<init>" cJ14_init 2 (none)) (l0 : Nat) (l1 : Int32) (S : gS) (H : Heap) (locs : List Loc) (ls : Array Slot) (kc ks C N : Nat) (hkc : kc + C ≤ mc) (hks : ks + N ≤ ms) (hH : hp G Rp S H) (hS : va_S G.2.2.2 s.heap H locs) (hl : lv_has ls 2 [(0, .ref l0), (1, .int l1)]) (hf : fJ14_init_c19 G l0 l1 S = some (r, Sf, C, N)) : W p l e (gR 1 60 mc ms) s m args below meth c H locs kc ks (gQ below G Rp none Sf args s mc ms) (F0 m 0 ls []) := by
  obtain ⟨hx, hb, hr, hlk, hml, hown, hts, hE, hA, hnm⟩ := hc
  have hc : gC p s m args meth c G RJ14 "<init>" cJ14_init 2 (none) := ⟨hx, hb, hr, hlk, hml, hown, hts, hE, hA, hnm⟩
  unfold fJ14_init_c19 at hf
  refine lv_aload_n (pc := 0) hx hb dJ14_init_0 rfl (lv_at hl 0 rfl) ?_
  refine W.objInit  hx hb hown (hts _ q613) (hts _ q169) (hts _ q170) rfl (by rw [hml]; exact hl.1) rfl dJ14_init_1 (Nat.le_of_ble_eq_true rfl) (Nat.le_of_ble_eq_true rfl) ?_
  refine W.eq (g2 := F0 m 4 ls []) rfl ?_
  refine g_compact (pc := 4) hx hb hE hS hown (hts _ q614) dJ14_init_4 ?_
  refine lv_if_eq (pc := 7) (tgt := 25) hx hb dJ14_init_7 (by decide) (fun c2 => ?_) (fun c2 => ?_)
  · rw [if_pos c2] at hf
    refine lv_aload_n (pc := 25) hx hb dJ14_init_25 rfl (lv_at hl 0 rfl) ?_
    refine lv_iload_n (pc := 26) hx hb dJ14_init_26 rfl (lv_at hl 1 rfl) ?_
    exact absurd hf (fun h => by cases h)
  · rw [if_neg c2] at hf
    refine lv_aload_n (pc := 10) hx hb dJ14_init_10 rfl (lv_at hl 0 rfl) ?_
    refine lv_iload_n (pc := 11) hx hb dJ14_init_11 rfl (lv_at hl 1 rfl) ?_
    obtain ⟨hn3, hi3, S3, c2_3, n2_3, eS3, hf, hC3, hN3⟩ := nwao hf
    refine g_newa (pc := 12) (atype := .byte) (ty := .byte) (t := 2) hx hb hts hE hA hk hH hS q387 rfl rfl rfl (fun _ h => by cases h) hn3 hi3 eS3 (by decide) (Nat.le_trans (by omega) hkc) (Nat.le_trans (by omega) hks) dJ14_init_12 (fun H hH hS => ?_)
    have hkc : kc + 1 + c2_3 ≤ mc := by omega
    have hks : ks + l1.toNatClampNeg + n2_3 ≤ ms := by omega
    obtain ⟨S4, e4, hf⟩ := bdo hf
    refine g_put (pc := 14) (o := (some l0)) (a := l0) (ci := 19) (k := 0) (v := .ref S.2) (C := RJ15) (T := TJ15) (N := 4) (ty := tyJ15 0) hx hb hts hown hE hk hH hS rfl in_J15 tyJ15_ok nmJ15 rfl (by decide) (hts _ q628) (fun _ h9 => h9) rfl rfl rfl rfl rfl e4 dJ14_init_14 (fun H locs hH hS => ?_)
    refine lv_aload_n (pc := 17) hx hb dJ14_init_17 rfl (lv_at hl 0 rfl) ?_
    refine lv_iconst (pc := 18) (v := nI 0) hx hb dJ14_init_18 rfl ?_
    obtain ⟨S5, e5, hf⟩ := bdo hf
    refine g_put (pc := 19) (o := (some l0)) (a := l0) (ci := 19) (k := 1) (v := .int (nI 0)) (C := RJ15) (T := TJ15) (N := 4) (ty := .byte) hx hb hts hown hE hk hH hS rfl in_J15 tyJ15_ok nmJ15 rfl (by decide) (hts _ q629) (fun _ h9 => h9) rfl rfl (by decide) (by decide) rfl e5 dJ14_init_19 (fun H locs hH hS => ?_)
    refine lv_goto (pc := 22) (tgt := 38) hx hb dJ14_init_22 (by decide) ?_
    exact g_vret (pc := 38) hx hb hr hlk hH hS hkc hks hf dJ14_init_38
theorem mJ14_init_c19 {l : Launch} {G : gG} {Rp : gM → gM → Nat → Prop} (hk : rOK Rp) {S S2 : gS} {r2 : Unit} {C N : Nat} {l0 : Nat} {l1 : Int32} (hf : fJ14_init_c19 G l0 l1 S = some (r2, S2, C, N)) : gMet l yJ14_init cJ14_init 2 (none) 1 60 G Rp [.ref l0, .int l1] S none S2 C N := by
  refine g_start (by decide) (Nat.le_of_ble_eq_true rfl) (fun p e s m args below meth c ls hc hl hH => ?_)
  have hl : lv_has ls 2 [(0, .ref l0), (1, .int l1)] := hl
  exact wJ14_init_c19_b0 hk hc l0 l1 S _ _ ls 0 0 C N (by omega) (by omega) hH va_S.rf (lv_sub hl [0, 1] rfl) hf
end
section
variable {r : Unit} {Sf : gS}
def fJ15_init (G : gG) (l0 : Nat) (S : gS) : gO Unit :=
  gb (fJ14_init_c19 G l0 (nI 16) S) fun _ S1 =>
  some ((), S1, 0, 0)
theorem wJ15_init_b0 (hk : rOK Rp) (hc : gC p s m args meth c G RJ15 "<init>" cJ15_init 1 (none)) (l0 : Nat) (S : gS) (H : Heap) (locs : List Loc) (ls : Array Slot) (kc ks C N : Nat) (hkc : kc + C ≤ mc) (hks : ks + N ≤ ms) (hH : hp G Rp S H) (hS : va_S G.2.2.2 s.heap H locs) (hl : lv_has ls 1 [(0, .ref l0)]) (hf : fJ15_init G l0 S = some (r, Sf, C, N)) : W p l e (gR 2 81 mc ms) s m args below meth c H locs kc ks (gQ below G Rp none Sf args s mc ms) (F0 m 0 ls []) := by
  obtain ⟨hx, hb, hr, hlk, hml, hown, hts, hE, hA, hnm⟩ := hc
  have hc : gC p s m args meth c G RJ15 "<init>" cJ15_init 1 (none) := ⟨hx, hb, hr, hlk, hml, hown, hts, hE, hA, hnm⟩
  unfold fJ15_init at hf
  refine lv_aload_n (pc := 0) hx hb dJ15_init_0 rfl (lv_at hl 0 rfl) ?_
  refine lv_bipush (pc := 1) (v := nI 16) hx hb dJ15_init_1 jgkb16 ?_
  obtain ⟨_, S1, c1, n1, c2_1, n2_1, e1, hf, hC1, hN1⟩ := gbo hf
  refine g_callI (pc := 3) (o := (some l0)) (b := l0) (As := [.int (nI 16)]) (rest := []) hc (mJ14_init_c19 hk (l0 := l0) (l1 := (nI 16)) e1) (cwI 1 hts (lw_meth q612) rfl rfl rfl (hts _ q117) (hts _ q610) (hts _ q611) rfl jhdiJ14_init ⟨Nat.le_of_ble_eq_true rfl, Nat.le_of_ble_eq_true rfl⟩) rfl rfl hl.1 rfl (lv_room (Nat.le_of_ble_eq_true rfl)) dJ15_init_3 hH hS (by omega) (by omega) (fun H locs hH hS => ?_)
  have hkc : kc + c1 + c2_1 ≤ mc := by omega
  have hks : ks + n1 + n2_1 ≤ ms := by omega
  exact g_vret (pc := 6) hx hb hr hlk hH hS hkc hks hf dJ15_init_6
theorem mJ15_init {l : Launch} {G : gG} {Rp : gM → gM → Nat → Prop} (hk : rOK Rp) {S S2 : gS} {r2 : Unit} {C N : Nat} {l0 : Nat} (hf : fJ15_init G l0 S = some (r2, S2, C, N)) : gMet l yJ15_init cJ15_init 1 (none) 2 81 G Rp [.ref l0] S none S2 C N := by
  refine g_start (by decide) (Nat.le_of_ble_eq_true rfl) (fun p e s m args below meth c ls hc hl hH => ?_)
  have hl : lv_has ls 1 [(0, .ref l0)] := hl
  exact wJ15_init_b0 hk hc l0 S _ _ ls 0 0 C N (by omega) (by omega) hH va_S.rf (lv_sub hl [0] rfl) hf
end
section
variable {r : Int32} {Sf : gS}
def fJ14_length_c19 (G : gG) (l0 : Nat) (S : gS) : gO Int32 :=
  bd (rdI S l0 19 3) fun v1 =>
  some (v1, S, 0, 0)
theorem wJ14_length_c19_b0 (hk : rOK Rp) (hc : gC p s m args meth c G RJ14 "length" cJ14_length 1 (some .int)) (l0 : Nat) (S : gS) (H : Heap) (locs : List Loc) (ls : Array Slot) (kc ks C N : Nat) (hkc : kc + C ≤ mc) (hks : ks + N ≤ ms) (hH : hp G Rp S H) (hS : va_S G.2.2.2 s.heap H locs) (hl : lv_has ls 1 [(0, .ref l0)]) (hf : fJ14_length_c19 G l0 S = some (r, Sf, C, N)) : W p l e (gR 1 60 mc ms) s m args below meth c H locs kc ks (gQ below G Rp (some (.int r)) Sf args s mc ms) (F0 m 0 ls []) := by
  obtain ⟨hx, hb, hr, hlk, hml, hown, hts, hE, hA, hnm⟩ := hc
  have hc : gC p s m args meth c G RJ14 "length" cJ14_length 1 (some .int) := ⟨hx, hb, hr, hlk, hml, hown, hts, hE, hA, hnm⟩
  unfold fJ14_length_c19 at hf
  refine lv_aload_n (pc := 0) hx hb dJ14_length_0 rfl (lv_at hl 0 rfl) ?_
  obtain ⟨v1, e1, hf⟩ := bdo hf
  refine g_get (pc := 1) (o := (some l0)) (a := l0) (ci := 19) (k := 3) (v := .int v1) (C := RJ15) (T := TJ15) (N := 4) hx hb hts hown hE hk hH in_J15 rfl (by decide) (hts _ q631) (fun _ h9 => h9) rfl (rdI_o e1) dJ14_length_1 ?_
  exact g_iret (pc := 4) hx hb hr hlk hH hS hkc hks hf dJ14_length_4
theorem mJ14_length_c19 {l : Launch} {G : gG} {Rp : gM → gM → Nat → Prop} (hk : rOK Rp) {S S2 : gS} {r2 : Int32} {C N : Nat} {l0 : Nat} (hf : fJ14_length_c19 G l0 S = some (r2, S2, C, N)) : gMet l yJ14_length cJ14_length 1 (some .int) 1 60 G Rp [.ref l0] S (some (.int r2)) S2 C N := by
  refine g_start (by decide) (Nat.le_of_ble_eq_true rfl) (fun p e s m args below meth c ls hc hl hH => ?_)
  have hl : lv_has ls 1 [(0, .ref l0)] := hl
  exact wJ14_length_c19_b0 hk hc l0 S _ _ ls 0 0 C N (by omega) (by omega) hH va_S.rf (lv_sub hl [0] rfl) hf
end
section
variable {r : Int32} {Sf : gS}
def fJ15_length (G : gG) (l0 : Nat) (S : gS) : gO Int32 :=
  bd (chk S l0 19) fun _ =>
  gb (fJ14_length_c19 G l0 S) fun v1 S1 =>
  some (v1, S1, 0, 0)
theorem wJ15_length_b0 (hk : rOK Rp) (hc : gC p s m args meth c G RJ15 "length" cJ15_length 1 (some .int)) (l0 : Nat) (S : gS) (H : Heap) (locs : List Loc) (ls : Array Slot) (kc ks C N : Nat) (hkc : kc + C ≤ mc) (hks : ks + N ≤ ms) (hH : hp G Rp S H) (hS : va_S G.2.2.2 s.heap H locs) (hl : lv_has ls 1 [(0, .ref l0)]) (hf : fJ15_length G l0 S = some (r, Sf, C, N)) : W p l e (gR 2 80 mc ms) s m args below meth c H locs kc ks (gQ below G Rp (some (.int r)) Sf args s mc ms) (F0 m 0 ls []) := by
  obtain ⟨hx, hb, hr, hlk, hml, hown, hts, hE, hA, hnm⟩ := hc
  have hc : gC p s m args meth c G RJ15 "length" cJ15_length 1 (some .int) := ⟨hx, hb, hr, hlk, hml, hown, hts, hE, hA, hnm⟩
  unfold fJ15_length at hf
  refine lv_aload_n (pc := 0) hx hb dJ15_length_0 rfl (lv_at hl 0 rfl) ?_
  obtain ⟨_, ek1, hf⟩ := bdo hf
  obtain ⟨v1, S1, c1, n1, c2_1, n2_1, e1, hf, hC1, hN1⟩ := gbo hf
  refine g_callSU (pc := 1) (o := (some l0)) (b := l0) (As := []) (rest := []) (st1 := [.int v1]) (ci := 19) (q := (RJ15, TJ15, 4)) hc hk (mJ14_length_c19 hk (l0 := l0) e1) (va_cwSU 0 hts (lw_app (lw_of5 q809 q805 q640 q804 q117) (lw_meth q810)) rfl rfl rfl jhsuJ14_length ⟨Nat.le_of_ble_eq_true rfl, Nat.le_of_ble_eq_true rfl⟩) rfl (chk_o ek1).choose_spec rfl rfl hl.1 rfl rfl (lv_room (Nat.le_of_ble_eq_true rfl)) dJ15_length_1 hH hS (by omega) (by omega) (fun H locs hH hS => ?_)
  have hkc : kc + c1 + c2_1 ≤ mc := by omega
  have hks : ks + n1 + n2_1 ≤ ms := by omega
  exact g_iret (pc := 4) hx hb hr hlk hH hS hkc hks hf dJ15_length_4
theorem mJ15_length {l : Launch} {G : gG} {Rp : gM → gM → Nat → Prop} (hk : rOK Rp) {S S2 : gS} {r2 : Int32} {C N : Nat} {l0 : Nat} (hf : fJ15_length G l0 S = some (r2, S2, C, N)) : gMet l yJ15_length cJ15_length 1 (some .int) 2 80 G Rp [.ref l0] S (some (.int r2)) S2 C N := by
  refine g_start (by decide) (Nat.le_of_ble_eq_true rfl) (fun p e s m args below meth c ls hc hl hH => ?_)
  have hl : lv_has ls 1 [(0, .ref l0)] := hl
  exact wJ15_length_b0 hk hc l0 S _ _ ls 0 0 C N (by omega) (by omega) hH va_S.rf (lv_sub hl [0] rfl) hf
end
section
variable {r : Int32} {Sf : gS}
def fJ14_newCapacity_c19 (G : gG) (l0 : Nat) (l1 : Int32) (S : gS) : gO Int32 :=
  bd (rdR S l0 19 0) fun v1 =>
  bd v1 fun a2 =>
  bd (lenB G S a2) fun v3 =>
  bd (rdI S l0 19 1) fun v4 =>
  bd (rdI S l0 19 1) fun v5 =>
  gb (fJ17_newLength G v3 ((l1 <<< (v4 &&& 31)) - v3) (v3 + ((nI 2) <<< (v5 &&& 31))) S) fun v6 S6 =>
  if v6 = (nI 2147483647) then
    none
  else
    bd (rdI S6 l0 19 1) fun v8 =>
    some (v6 >>> (v8 &&& 31), S6, 0, 0)
theorem wJ14_newCapacity_c19_b0 (hk : rOK Rp) (hc : gC p s m args meth c G RJ14 "newCapacity" cJ14_newCapacity 6 (some .int)) (l0 : Nat) (l1 : Int32) (S : gS) (H : Heap) (locs : List Loc) (ls : Array Slot) (kc ks C N : Nat) (hkc : kc + C ≤ mc) (hks : ks + N ≤ ms) (hH : hp G Rp S H) (hS : va_S G.2.2.2 s.heap H locs) (hl : lv_has ls 6 [(0, .ref l0), (1, .int l1)]) (hf : fJ14_newCapacity_c19 G l0 l1 S = some (r, Sf, C, N)) : W p l e (gR 2 83 mc ms) s m args below meth c H locs kc ks (gQ below G Rp (some (.int r)) Sf args s mc ms) (F0 m 0 ls []) := by
  obtain ⟨hx, hb, hr, hlk, hml, hown, hts, hE, hA, hnm⟩ := hc
  have hc : gC p s m args meth c G RJ14 "newCapacity" cJ14_newCapacity 6 (some .int) := ⟨hx, hb, hr, hlk, hml, hown, hts, hE, hA, hnm⟩
  unfold fJ14_newCapacity_c19 at hf
  refine lv_aload_n (pc := 0) hx hb dJ14_newCapacity_0 rfl (lv_at hl 0 rfl) ?_
  obtain ⟨v1, e1, hf⟩ := bdo hf
  refine g_get (pc := 1) (o := (some l0)) (a := l0) (ci := 19) (k := 0) (v := va_rf v1) (C := RJ15) (T := TJ15) (N := 4) hx hb hts hown hE hk hH in_J15 rfl (by decide) (hts _ q628) (fun _ h9 => h9) rfl (rdR_o e1) dJ14_newCapacity_1 ?_
  obtain ⟨a2, ea2, hf⟩ := bdo hf
  obtain ⟨v3, e3, hf⟩ := bdo hf
  refine g_lenB (pc := 4) (o := v1) (a := a2) hx hb hE hk hH hS ea2 e3 dJ14_newCapacity_4 ?_
  refine lv_istore_n (pc := 5) (i := 2) (lv' := [(2, .int v3), (0, .ref l0), (1, .int l1)]) hx hb dJ14_newCapacity_5 rfl hl (by decide) rfl (fun ls hl => ?_)
  refine lv_iload_n (pc := 6) hx hb dJ14_newCapacity_6 rfl (lv_at hl 2 rfl) ?_
  refine lv_aload_n (pc := 7) hx hb dJ14_newCapacity_7 rfl (lv_at hl 1 rfl) ?_
  obtain ⟨v4, e4, hf⟩ := bdo hf
  refine g_get (pc := 8) (o := (some l0)) (a := l0) (ci := 19) (k := 1) (v := .int v4) (C := RJ15) (T := TJ15) (N := 4) hx hb hts hown hE hk hH in_J15 rfl (by decide) (hts _ q629) (fun _ h9 => h9) rfl (rdI_o e4) dJ14_newCapacity_8 ?_
  refine lv_ishl (pc := 11) hx hb dJ14_newCapacity_11 ?_
  refine lv_istore_n (pc := 12) (i := 3) (lv' := [(3, .int (l1 <<< (v4 &&& 31))), (2, .int v3), (0, .ref l0), (1, .int l1)]) hx hb dJ14_newCapacity_12 rfl hl (by decide) rfl (fun ls hl => ?_)
  refine lv_iload_n (pc := 13) hx hb dJ14_newCapacity_13 rfl (lv_at hl 0 rfl) ?_
  refine lv_iload_n (pc := 14) hx hb dJ14_newCapacity_14 rfl (lv_at hl 1 rfl) ?_
  refine lv_isub (pc := 15) hx hb dJ14_newCapacity_15 ?_
  refine lv_istore (pc := 16) (i := 4) (lv' := [(4, .int ((l1 <<< (v4 &&& 31)) - v3)), (3, .int (l1 <<< (v4 &&& 31))), (2, .int v3), (0, .ref l0), (1, .int l1)]) hx hb dJ14_newCapacity_16 hl (by decide) rfl (fun ls hl => ?_)
  refine lv_iload_n (pc := 18) hx hb dJ14_newCapacity_18 rfl (lv_at hl 2 rfl) ?_
  refine lv_iload (pc := 19) hx hb dJ14_newCapacity_19 (lv_at hl 0 rfl) ?_
  refine lv_iload_n (pc := 21) hx hb dJ14_newCapacity_21 rfl (lv_at hl 2 rfl) ?_
  refine lv_iconst (pc := 22) (v := nI 2) hx hb dJ14_newCapacity_22 rfl ?_
  refine lv_aload_n (pc := 23) hx hb dJ14_newCapacity_23 rfl (lv_at hl 3 rfl) ?_
  obtain ⟨v5, e5, hf⟩ := bdo hf
  refine g_get (pc := 24) (o := (some l0)) (a := l0) (ci := 19) (k := 1) (v := .int v5) (C := RJ15) (T := TJ15) (N := 4) hx hb hts hown hE hk hH in_J15 rfl (by decide) (hts _ q629) (fun _ h9 => h9) rfl (rdI_o e5) dJ14_newCapacity_24 ?_
  refine lv_ishl (pc := 27) hx hb dJ14_newCapacity_27 ?_
  refine lv_iadd (pc := 28) hx hb dJ14_newCapacity_28 ?_
  obtain ⟨v6, S6, c6, n6, c2_6, n2_6, e6, hf, hC6, hN6⟩ := gbo hf
  refine g_callS (pc := 29) (As := [.int v3, .int ((l1 <<< (v4 &&& 31)) - v3), .int (v3 + ((nI 2) <<< (v5 &&& 31)))]) (rest := []) (st1 := [.int v6]) hc (mJ17_newLength hk (l0 := v3) (l1 := ((l1 <<< (v4 &&& 31)) - v3)) (l2 := (v3 + ((nI 2) <<< (v5 &&& 31)))) e6) (va_cwS 3 hts (lw_S q661 q662 q120 q663) rfl rfl rfl jhdJ17_newLength ⟨Nat.le_of_ble_eq_true rfl, Nat.le_of_ble_eq_true rfl⟩) rfl hl.1 rfl rfl (lv_room (Nat.le_of_ble_eq_true rfl)) dJ14_newCapacity_29 hH hS (by omega) (by omega) (fun H locs hH hS => ?_)
  have hkc : kc + c6 + c2_6 ≤ mc := by omega
  have hks : ks + n6 + n2_6 ≤ ms := by omega
  refine lv_istore (pc := 32) (i := 5) (lv' := [(5, .int v6), (4, .int ((l1 <<< (v4 &&& 31)) - v3)), (3, .int (l1 <<< (v4 &&& 31))), (2, .int v3), (0, .ref l0), (1, .int l1)]) hx hb dJ14_newCapacity_32 hl (by decide) rfl (fun ls hl => ?_)
  refine lv_iload (pc := 34) hx hb dJ14_newCapacity_34 (lv_at hl 0 rfl) ?_
  refine lv_ldc (pc := 36) (v := nI 2147483647) hx hb hown (hts _ q671) dJ14_newCapacity_36 ?_
  refine lv_icmp_ne (pc := 38) (tgt := 51) hx hb dJ14_newCapacity_38 (by decide) (fun c7 => ?_) (fun c7 => ?_)
  · rw [if_neg c7] at hf
    refine lv_iload (pc := 51) hx hb dJ14_newCapacity_51 (lv_at hl 0 rfl) ?_
    refine lv_aload_n (pc := 53) hx hb dJ14_newCapacity_53 rfl (lv_at hl 4 rfl) ?_
    obtain ⟨v8, e8, hf⟩ := bdo hf
    refine g_get (pc := 54) (o := (some l0)) (a := l0) (ci := 19) (k := 1) (v := .int v8) (C := RJ15) (T := TJ15) (N := 4) hx hb hts hown hE hk hH in_J15 rfl (by decide) (hts _ q629) (fun _ h9 => h9) rfl (rdI_o e8) dJ14_newCapacity_54 ?_
    refine lv_ishr (pc := 57) hx hb dJ14_newCapacity_57 ?_
    exact g_iret (pc := 58) hx hb hr hlk hH hS hkc hks hf dJ14_newCapacity_58
  · rw [if_pos c7] at hf
    exact absurd hf (fun h => by cases h)
theorem mJ14_newCapacity_c19 {l : Launch} {G : gG} {Rp : gM → gM → Nat → Prop} (hk : rOK Rp) {S S2 : gS} {r2 : Int32} {C N : Nat} {l0 : Nat} {l1 : Int32} (hf : fJ14_newCapacity_c19 G l0 l1 S = some (r2, S2, C, N)) : gMet l yJ14_newCapacity cJ14_newCapacity 6 (some .int) 2 83 G Rp [.ref l0, .int l1] S (some (.int r2)) S2 C N := by
  refine g_start (by decide) (Nat.le_of_ble_eq_true rfl) (fun p e s m args below meth c ls hc hl hH => ?_)
  have hl : lv_has ls 6 [(0, .ref l0), (1, .int l1)] := hl
  exact wJ14_newCapacity_c19_b0 hk hc l0 l1 S _ _ ls 0 0 C N (by omega) (by omega) hH va_S.rf (lv_sub hl [0, 1] rfl) hf
end
section
variable {r : Option Nat} {Sf : gS}
def fJ19_copyOf (G : gG) (l0 : Option Nat) (l1 : Int32) (S : gS) : gO (Option Nat) :=
  bd l0 fun a1 =>
  bd (lenB G S a1) fun v2 =>
  if l1 = v2 then
    none
  else
    nwa S 2 l1 fun S4 =>
    bd (lenB G S4 a1) fun v5 =>
    bd (cpyK G S4 a1 (nI 0) S.2 (nI 0) (if l1 < v5 then l1 else v5)) fun S7 =>
    some ((some S.2), S7, 0, 0)
theorem wJ19_copyOf_b0 (hk : rOK Rp) (hc : gC p s m args meth c G RJ19 "copyOf" cJ19_copyOf 3 (some (.array .byte))) (l0 : Option Nat) (l1 : Int32) (S : gS) (H : Heap) (locs : List Loc) (ls : Array Slot) (kc ks C N : Nat) (hkc : kc + C ≤ mc) (hks : ks + N ≤ ms) (hH : hp G Rp S H) (hS : va_S G.2.2.2 s.heap H locs) (hl : lv_has ls 3 [(0, va_rf l0), (1, .int l1)]) (hf : fJ19_copyOf G l0 l1 S = some (r, Sf, C, N)) : W p l e (gR 1 60 mc ms) s m args below meth c H locs kc ks (gQ below G Rp (some (va_rf r)) Sf args s mc ms) (F0 m 0 ls []) := by
  obtain ⟨hx, hb, hr, hlk, hml, hown, hts, hE, hA, hnm⟩ := hc
  have hc : gC p s m args meth c G RJ19 "copyOf" cJ19_copyOf 3 (some (.array .byte)) := ⟨hx, hb, hr, hlk, hml, hown, hts, hE, hA, hnm⟩
  unfold fJ19_copyOf at hf
  refine lv_iload_n (pc := 0) hx hb dJ19_copyOf_0 rfl (lv_at hl 1 rfl) ?_
  refine g_aload_n (pc := 1) (o := l0) hx hb dJ19_copyOf_1 rfl (lv_at hl 0 rfl) ?_
  obtain ⟨a1, ea1, hf⟩ := bdo hf
  obtain ⟨v2, e2, hf⟩ := bdo hf
  refine g_lenB (pc := 2) (o := l0) (a := a1) hx hb hE hk hH hS ea1 e2 dJ19_copyOf_2 ?_
  refine lv_icmp_ne (pc := 3) (tgt := 14) hx hb dJ19_copyOf_3 (by decide) (fun c3 => ?_) (fun c3 => ?_)
  · rw [if_neg c3] at hf
    refine lv_iload_n (pc := 14) hx hb dJ19_copyOf_14 rfl (lv_at hl 1 rfl) ?_
    obtain ⟨hn4, hi4, S4, c2_4, n2_4, eS4, hf, hC4, hN4⟩ := nwao hf
    refine g_newa (pc := 15) (atype := .byte) (ty := .byte) (t := 2) hx hb hts hE hA hk hH hS q387 rfl rfl rfl (fun _ h => by cases h) hn4 hi4 eS4 (by decide) (Nat.le_trans (by omega) hkc) (Nat.le_trans (by omega) hks) dJ19_copyOf_15 (fun H hH hS => ?_)
    have hkc : kc + 1 + c2_4 ≤ mc := by omega
    have hks : ks + l1.toNatClampNeg + n2_4 ≤ ms := by omega
    refine lv_astore_n (pc := 17) (i := 2) (lv' := [(2, .ref S.2), (0, va_rf l0), (1, .int l1)]) hx hb dJ19_copyOf_17 rfl hl (by decide) rfl (fun ls hl => ?_)
    refine g_aload_n (pc := 18) (o := l0) hx hb dJ19_copyOf_18 rfl (lv_at hl 1 rfl) ?_
    refine lv_iconst (pc := 19) (v := nI 0) hx hb dJ19_copyOf_19 rfl ?_
    refine lv_aload_n (pc := 20) hx hb dJ19_copyOf_20 rfl (lv_at hl 0 rfl) ?_
    refine lv_iconst (pc := 21) (v := nI 0) hx hb dJ19_copyOf_21 rfl ?_
    refine g_aload_n (pc := 22) (o := l0) hx hb dJ19_copyOf_22 rfl (lv_at hl 1 rfl) ?_
    obtain ⟨v5, e5, hf⟩ := bdo hf
    refine g_lenB (pc := 23) (o := l0) (a := a1) hx hb hE hk hH hS ea1 e5 dJ19_copyOf_23 ?_
    refine lv_iload_n (pc := 24) hx hb dJ19_copyOf_24 rfl (lv_at hl 2 rfl) ?_
    refine va_mmin (pc := 25) hx hb (hml.trans hl.1.symm) hown (hts _ q682) (hts _ q683) (hts _ q121) (hts _ q684) (Nat.le_of_ble_eq_true rfl) (by simp [gR, va_rf_cat, cat_i, cat_j, cat_r]) (Nat.le_trans (by omega) hkc) (Nat.le_trans (by omega) hks) dJ19_copyOf_25 ?_
    obtain ⟨S7, e7, hf⟩ := bdo hf
    refine g_cpyK (pc := 28) (o0 := l0) (a0 := a1) (o := (some S.2)) (a := S.2) hx hb (hml.trans hl.1.symm) hts hown hE hk hH hS q685 q520 q519 q116 ea1 rfl e7 (Nat.le_of_ble_eq_true rfl) (by simp [gR, va_rf_cat, cat_i, cat_j, cat_r]) dJ19_copyOf_28 (fun H locs hH hS => ?_)
    refine lv_aload_n (pc := 31) hx hb dJ19_copyOf_31 rfl (lv_at hl 0 rfl) ?_
    exact g_aret (pc := 32) (v := (some S.2)) hx hb hr (Or.inr ⟨_, rfl⟩) hlk hH hS hkc hks hf dJ19_copyOf_32
  · rw [if_pos c3] at hf
    refine g_aload_n (pc := 6) (o := l0) hx hb dJ19_copyOf_6 rfl (lv_at hl 0 rfl) ?_
    exact absurd hf (fun h => by cases h)
theorem mJ19_copyOf {l : Launch} {G : gG} {Rp : gM → gM → Nat → Prop} (hk : rOK Rp) {S S2 : gS} {r2 : Option Nat} {C N : Nat} {l0 : Option Nat} {l1 : Int32} (hf : fJ19_copyOf G l0 l1 S = some (r2, S2, C, N)) : gMet l yJ19_copyOf cJ19_copyOf 3 (some (.array .byte)) 1 60 G Rp [va_rf l0, .int l1] S (some (va_rf r2)) S2 C N := by
  refine g_start (by decide) (by simp [lg_sl, va_rf_cat, cat_i, cat_j, cat_r]) (fun p e s m args below meth c ls hc hl hH => ?_)
  have hl : lv_has ls 3 [(0, va_rf l0), (1, .int l1)] := by simpa [lv_args, va_rf_cat, cat_i, cat_j, cat_r] using hl
  exact wJ19_copyOf_b0 hk hc l0 l1 S _ _ ls 0 0 C N (by omega) (by omega) hH va_S.rf (lv_sub hl [0, 1] rfl) hf
end
section
variable {r : Unit} {Sf : gS}
def fJ14_ensureCapacityInternal_c19 (G : gG) (l0 : Nat) (l1 : Int32) (S : gS) : gO Unit :=
  bd (rdR S l0 19 0) fun v1 =>
  bd v1 fun a2 =>
  bd (lenB G S a2) fun v3 =>
  bd (rdI S l0 19 1) fun v4 =>
  if (l1 - (v3 >>> (v4 &&& 31))) ≤ 0 then
    some ((), S, 0, 0)
  else
    bd (rdR S l0 19 0) fun v6 =>
    bd (chk S l0 19) fun _ =>
    gb (fJ14_newCapacity_c19 G l0 l1 S) fun v7 S7 =>
    bd (rdI S7 l0 19 1) fun v8 =>
    gb (fJ19_copyOf G v6 (v7 <<< (v8 &&& 31)) S7) fun v9 S9 =>
    bd (wr S9 l0 19 0 (va_rf v9)) fun S10 =>
    some ((), S10, 0, 0)
theorem wJ14_ensureCapacityInternal_c19_b0 (hk : rOK Rp) (hc : gC p s m args meth c G RJ14 "ensureCapacityInternal" cJ14_ensureCapacityInternal 3 (none)) (l0 : Nat) (l1 : Int32) (S : gS) (H : Heap) (locs : List Loc) (ls : Array Slot) (kc ks C N : Nat) (hkc : kc + C ≤ mc) (hks : ks + N ≤ ms) (hH : hp G Rp S H) (hS : va_S G.2.2.2 s.heap H locs) (hl : lv_has ls 3 [(0, .ref l0), (1, .int l1)]) (hf : fJ14_ensureCapacityInternal_c19 G l0 l1 S = some (r, Sf, C, N)) : W p l e (gR 3 108 mc ms) s m args below meth c H locs kc ks (gQ below G Rp none Sf args s mc ms) (F0 m 0 ls []) := by
  obtain ⟨hx, hb, hr, hlk, hml, hown, hts, hE, hA, hnm⟩ := hc
  have hc : gC p s m args meth c G RJ14 "ensureCapacityInternal" cJ14_ensureCapacityInternal 3 (none) := ⟨hx, hb, hr, hlk, hml, hown, hts, hE, hA, hnm⟩
  unfold fJ14_ensureCapacityInternal_c19 at hf
  refine lv_aload_n (pc := 0) hx hb dJ14_ensureCapacityInternal_0 rfl (lv_at hl 0 rfl) ?_
  obtain ⟨v1, e1, hf⟩ := bdo hf
  refine g_get (pc := 1) (o := (some l0)) (a := l0) (ci := 19) (k := 0) (v := va_rf v1) (C := RJ15) (T := TJ15) (N := 4) hx hb hts hown hE hk hH in_J15 rfl (by decide) (hts _ q628) (fun _ h9 => h9) rfl (rdR_o e1) dJ14_ensureCapacityInternal_1 ?_
  obtain ⟨a2, ea2, hf⟩ := bdo hf
  obtain ⟨v3, e3, hf⟩ := bdo hf
  refine g_lenB (pc := 4) (o := v1) (a := a2) hx hb hE hk hH hS ea2 e3 dJ14_ensureCapacityInternal_4 ?_
  refine lv_aload_n (pc := 5) hx hb dJ14_ensureCapacityInternal_5 rfl (lv_at hl 0 rfl) ?_
  obtain ⟨v4, e4, hf⟩ := bdo hf
  refine g_get (pc := 6) (o := (some l0)) (a := l0) (ci := 19) (k := 1) (v := .int v4) (C := RJ15) (T := TJ15) (N := 4) hx hb hts hown hE hk hH in_J15 rfl (by decide) (hts _ q629) (fun _ h9 => h9) rfl (rdI_o e4) dJ14_ensureCapacityInternal_6 ?_
  refine lv_ishr (pc := 9) hx hb dJ14_ensureCapacityInternal_9 ?_
  refine lv_istore_n (pc := 10) (i := 2) (lv' := [(2, .int (v3 >>> (v4 &&& 31))), (0, .ref l0), (1, .int l1)]) hx hb dJ14_ensureCapacityInternal_10 rfl hl (by decide) rfl (fun ls hl => ?_)
  refine lv_iload_n (pc := 11) hx hb dJ14_ensureCapacityInternal_11 rfl (lv_at hl 2 rfl) ?_
  refine lv_iload_n (pc := 12) hx hb dJ14_ensureCapacityInternal_12 rfl (lv_at hl 0 rfl) ?_
  refine lv_isub (pc := 13) hx hb dJ14_ensureCapacityInternal_13 ?_
  refine lv_if_le (pc := 14) (tgt := 38) hx hb dJ14_ensureCapacityInternal_14 (by decide) (fun c5 => ?_) (fun c5 => ?_)
  · rw [if_pos c5] at hf
    exact g_vret (pc := 38) hx hb hr hlk hH hS hkc hks hf dJ14_ensureCapacityInternal_38
  · rw [if_neg c5] at hf
    refine lv_aload_n (pc := 17) hx hb dJ14_ensureCapacityInternal_17 rfl (lv_at hl 1 rfl) ?_
    refine lv_aload_n (pc := 18) hx hb dJ14_ensureCapacityInternal_18 rfl (lv_at hl 1 rfl) ?_
    obtain ⟨v6, e6, hf⟩ := bdo hf
    refine g_get (pc := 19) (o := (some l0)) (a := l0) (ci := 19) (k := 0) (v := va_rf v6) (C := RJ15) (T := TJ15) (N := 4) hx hb hts hown hE hk hH in_J15 rfl (by decide) (hts _ q628) (fun _ h9 => h9) rfl (rdR_o e6) dJ14_ensureCapacityInternal_19 ?_
    refine lv_aload_n (pc := 22) hx hb dJ14_ensureCapacityInternal_22 rfl (lv_at hl 1 rfl) ?_
    refine lv_iload_n (pc := 23) hx hb dJ14_ensureCapacityInternal_23 rfl (lv_at hl 2 rfl) ?_
    obtain ⟨_, ek7, hf⟩ := bdo hf
    obtain ⟨v7, S7, c7, n7, c2_7, n2_7, e7, hf, hC7, hN7⟩ := gbo hf
    refine g_callVC (pc := 24) (o := (some l0)) (b := l0) (As := [.int l1]) (rest := [va_rf v6, .ref l0]) (st1 := [.int v7, va_rf v6, .ref l0]) (C := "java/lang/StringBuilder") hc (mJ14_newCapacity_c19 hk (l0 := l0) (l1 := l1) e7) (cwP 1 hts (lw_meth q660) rfl rfl rfl (hts _ q657) (hts _ q659) (hts _ q117) (va_Nw.use rfl (hE.2.2.2.2.2.2.2.2.2.2.2.2.2.2 _ (List.mem_of_getElem? (i := 1) rfl))) jhdJ14_newCapacity.2 ⟨Nat.le_of_ble_eq_true rfl, Nat.le_of_ble_eq_true rfl⟩) (g_recv hE hk hH (ci := 19) (q := (RJ15, TJ15, 4)) rfl (chk_o ek7).choose_spec) rfl rfl hl.1 rfl rfl (lv_room (by simp [va_rf_cat, cat_i, cat_j, cat_r])) dJ14_ensureCapacityInternal_24 hH hS (by omega) (by omega) (fun H locs hH hS => ?_)
    have hkc : kc + c7 + c2_7 ≤ mc := by omega
    have hks : ks + n7 + n2_7 ≤ ms := by omega
    refine lv_aload_n (pc := 27) hx hb dJ14_ensureCapacityInternal_27 rfl (lv_at hl 1 rfl) ?_
    obtain ⟨v8, e8, hf⟩ := bdo hf
    refine g_get (pc := 28) (o := (some l0)) (a := l0) (ci := 19) (k := 1) (v := .int v8) (C := RJ15) (T := TJ15) (N := 4) hx hb hts hown hE hk hH in_J15 rfl (by decide) (hts _ q629) (fun _ h9 => h9) rfl (rdI_o e8) dJ14_ensureCapacityInternal_28 ?_
    refine lv_ishl (pc := 31) hx hb dJ14_ensureCapacityInternal_31 ?_
    obtain ⟨v9, S9, c9, n9, c2_9, n2_9, e9, hf, hC9, hN9⟩ := gbo hf
    refine g_callS (pc := 32) (As := [va_rf v6, .int (v7 <<< (v8 &&& 31))]) (rest := [.ref l0]) (st1 := [va_rf v9, .ref l0]) hc (mJ19_copyOf hk (l0 := v6) (l1 := (v7 <<< (v8 &&& 31))) e9) (va_cwS 2 hts (lw_S q672 q673 q122 q674) rfl rfl rfl jhdJ19_copyOf ⟨Nat.le_of_ble_eq_true rfl, Nat.le_of_ble_eq_true rfl⟩) rfl hl.1 rfl rfl (lv_room (Nat.le_of_ble_eq_true rfl)) dJ14_ensureCapacityInternal_32 hH hS (by omega) (by omega) (fun H locs hH hS => ?_)
    have hkc : kc + c7 + c9 + c2_9 ≤ mc := by omega
    have hks : ks + n7 + n9 + n2_9 ≤ ms := by omega
    obtain ⟨S10, e10, hf⟩ := bdo hf
    refine g_put (pc := 35) (o := (some l0)) (a := l0) (ci := 19) (k := 0) (v := va_rf v9) (C := RJ15) (T := TJ15) (N := 4) (ty := tyJ15 0) hx hb hts hown hE hk hH hS rfl in_J15 tyJ15_ok nmJ15 rfl (by decide) (hts _ q628) (fun _ h9 => h9) rfl rfl (nar_ra _ _) (fit_ra _ _) rfl e10 dJ14_ensureCapacityInternal_35 (fun H locs hH hS => ?_)
    exact g_vret (pc := 38) hx hb hr hlk hH hS hkc hks hf dJ14_ensureCapacityInternal_38
theorem mJ14_ensureCapacityInternal_c19 {l : Launch} {G : gG} {Rp : gM → gM → Nat → Prop} (hk : rOK Rp) {S S2 : gS} {r2 : Unit} {C N : Nat} {l0 : Nat} {l1 : Int32} (hf : fJ14_ensureCapacityInternal_c19 G l0 l1 S = some (r2, S2, C, N)) : gMet l yJ14_ensureCapacityInternal cJ14_ensureCapacityInternal 3 (none) 3 108 G Rp [.ref l0, .int l1] S none S2 C N := by
  refine g_start (by decide) (Nat.le_of_ble_eq_true rfl) (fun p e s m args below meth c ls hc hl hH => ?_)
  have hl : lv_has ls 3 [(0, .ref l0), (1, .int l1)] := hl
  exact wJ14_ensureCapacityInternal_c19_b0 hk hc l0 l1 S _ _ ls 0 0 C N (by omega) (by omega) hH va_S.rf (lv_sub hl [0, 1] rfl) hf
end
section
variable {r : Int32} {Sf : gS}
def fJ14_isLatin1_c19 (G : gG) (l0 : Nat) (S : gS) : gO Int32 :=
  if (nI 1) = 0 then
    zg (nI 0) S
  else
    bd (rdI S l0 19 1) fun v2 =>
    if v2 = 0 then
      zg (nI 1) S
    else
      zg (nI 0) S
theorem wJ14_isLatin1_c19_b0 (hk : rOK Rp) (hc : gC p s m args meth c G RJ14 "isLatin1" cJ14_isLatin1 1 (some .boolean)) (l0 : Nat) (S : gS) (H : Heap) (locs : List Loc) (ls : Array Slot) (kc ks C N : Nat) (hkc : kc + C ≤ mc) (hks : ks + N ≤ ms) (hH : hp G Rp S H) (hS : va_S G.2.2.2 s.heap H locs) (hl : lv_has ls 1 [(0, .ref l0)]) (hf : fJ14_isLatin1_c19 G l0 S = some (r, Sf, C, N)) : W p l e (gR 1 60 mc ms) s m args below meth c H locs kc ks (gQ below G Rp (some (.int r)) Sf args s mc ms) (F0 m 0 ls []) := by
  obtain ⟨hx, hb, hr, hlk, hml, hown, hts, hE, hA, hnm⟩ := hc
  have hc : gC p s m args meth c G RJ14 "isLatin1" cJ14_isLatin1 1 (some .boolean) := ⟨hx, hb, hr, hlk, hml, hown, hts, hE, hA, hnm⟩
  unfold fJ14_isLatin1_c19 at hf
  refine g_compact (pc := 0) hx hb hE hS hown (hts _ q614) dJ14_isLatin1_0 ?_
  refine lv_if_eq (pc := 3) (tgt := 17) hx hb dJ14_isLatin1_3 (by decide) (fun c1 => ?_) (fun c1 => ?_)
  · rw [if_pos c1] at hf
    refine lv_iconst (pc := 17) (v := nI 0) hx hb dJ14_isLatin1_17 rfl ?_
    exact g_zret (pc := 18) hx hb hr hlk hH hS hkc hks hf dJ14_isLatin1_18
  · rw [if_neg c1] at hf
    refine lv_aload_n (pc := 6) hx hb dJ14_isLatin1_6 rfl (lv_at hl 0 rfl) ?_
    obtain ⟨v2, e2, hf⟩ := bdo hf
    refine g_get (pc := 7) (o := (some l0)) (a := l0) (ci := 19) (k := 1) (v := .int v2) (C := RJ15) (T := TJ15) (N := 4) hx hb hts hown hE hk hH in_J15 rfl (by decide) (hts _ q629) (fun _ h9 => h9) rfl (rdI_o e2) dJ14_isLatin1_7 ?_
    refine lv_if_ne (pc := 10) (tgt := 17) hx hb dJ14_isLatin1_10 (by decide) (fun c3 => ?_) (fun c3 => ?_)
    · rw [if_neg c3] at hf
      refine lv_iconst (pc := 17) (v := nI 0) hx hb dJ14_isLatin1_17 rfl ?_
      exact g_zret (pc := 18) hx hb hr hlk hH hS hkc hks hf dJ14_isLatin1_18
    · rw [if_pos c3] at hf
      refine lv_iconst (pc := 13) (v := nI 1) hx hb dJ14_isLatin1_13 rfl ?_
      refine lv_goto (pc := 14) (tgt := 18) hx hb dJ14_isLatin1_14 (by decide) ?_
      exact g_zret (pc := 18) hx hb hr hlk hH hS hkc hks hf dJ14_isLatin1_18
theorem mJ14_isLatin1_c19 {l : Launch} {G : gG} {Rp : gM → gM → Nat → Prop} (hk : rOK Rp) {S S2 : gS} {r2 : Int32} {C N : Nat} {l0 : Nat} (hf : fJ14_isLatin1_c19 G l0 S = some (r2, S2, C, N)) : gMet l yJ14_isLatin1 cJ14_isLatin1 1 (some .boolean) 1 60 G Rp [.ref l0] S (some (.int r2)) S2 C N := by
  refine g_start (by decide) (Nat.le_of_ble_eq_true rfl) (fun p e s m args below meth c ls hc hl hH => ?_)
  have hl : lv_has ls 1 [(0, .ref l0)] := hl
  exact wJ14_isLatin1_c19_b0 hk hc l0 S _ _ ls 0 0 C N (by omega) (by omega) hH va_S.rf (lv_sub hl [0] rfl) hf
end
section
variable {r : Int32} {Sf : gS}
def fJ21_canEncode (G : gG) (l0 : Int32) (S : gS) : gO Int32 :=
  if (nI 255) < l0 then
    zg (nI 0) S
  else
    zg (nI 1) S
theorem wJ21_canEncode_b0 (hk : rOK Rp) (hc : gC p s m args meth c G RJ21 "canEncode" cJ21_canEncode 1 (some .boolean)) (l0 : Int32) (S : gS) (H : Heap) (locs : List Loc) (ls : Array Slot) (kc ks C N : Nat) (hkc : kc + C ≤ mc) (hks : ks + N ≤ ms) (hH : hp G Rp S H) (hS : va_S G.2.2.2 s.heap H locs) (hl : lv_has ls 1 [(0, .int l0)]) (hf : fJ21_canEncode G l0 S = some (r, Sf, C, N)) : W p l e (gR 1 60 mc ms) s m args below meth c H locs kc ks (gQ below G Rp (some (.int r)) Sf args s mc ms) (F0 m 0 ls []) := by
  obtain ⟨hx, hb, hr, hlk, hml, hown, hts, hE, hA, hnm⟩ := hc
  have hc : gC p s m args meth c G RJ21 "canEncode" cJ21_canEncode 1 (some .boolean) := ⟨hx, hb, hr, hlk, hml, hown, hts, hE, hA, hnm⟩
  unfold fJ21_canEncode at hf
  refine lv_iload_n (pc := 0) hx hb dJ21_canEncode_0 rfl (lv_at hl 0 rfl) ?_
  refine lv_sipush (pc := 1) (v := nI 255) hx hb dJ21_canEncode_1 jgks255 ?_
  refine lv_icmp_gt (pc := 4) (tgt := 11) hx hb dJ21_canEncode_4 (by decide) (fun c1 => ?_) (fun c1 => ?_)
  · rw [if_pos c1] at hf
    refine lv_iconst (pc := 11) (v := nI 0) hx hb dJ21_canEncode_11 rfl ?_
    exact g_zret (pc := 12) hx hb hr hlk hH hS hkc hks hf dJ21_canEncode_12
  · rw [if_neg c1] at hf
    refine lv_iconst (pc := 7) (v := nI 1) hx hb dJ21_canEncode_7 rfl ?_
    refine lv_goto (pc := 8) (tgt := 12) hx hb dJ21_canEncode_8 (by decide) ?_
    exact g_zret (pc := 12) hx hb hr hlk hH hS hkc hks hf dJ21_canEncode_12
theorem mJ21_canEncode {l : Launch} {G : gG} {Rp : gM → gM → Nat → Prop} (hk : rOK Rp) {S S2 : gS} {r2 : Int32} {C N : Nat} {l0 : Int32} (hf : fJ21_canEncode G l0 S = some (r2, S2, C, N)) : gMet l yJ21_canEncode cJ21_canEncode 1 (some .boolean) 1 60 G Rp [.int l0] S (some (.int r2)) S2 C N := by
  refine g_start (by decide) (Nat.le_of_ble_eq_true rfl) (fun p e s m args below meth c ls hc hl hH => ?_)
  have hl : lv_has ls 1 [(0, .int l0)] := hl
  exact wJ21_canEncode_b0 hk hc l0 S _ _ ls 0 0 C N (by omega) (by omega) hH va_S.rf (lv_sub hl [0] rfl) hf
end
section
variable {r : Option Nat} {Sf : gS}
def fJ14_append_3_c19_b45 (G : gG) (l0 : Nat) (l1 : Int32) (S : gS) : gO (Option Nat) :=
  bd (chk S l0 19) fun _ =>
  gb (fJ14_isLatin1_c19 G l0 S) fun v1 S1 =>
  if v1 = 0 then
    bd (rdR S1 l0 19 0) fun v3 =>
    bd (rdI S1 l0 19 3) fun v4 =>
    bd (wr S1 l0 19 3 (.int (v4 + (nI 1)))) fun S5 =>
    none
  else
    none
theorem wJ14_append_3_c19_b45 (hk : rOK Rp) (hc : gC p s m args meth c G RJ14 "append" cJ14_append_3 2 (some (.object "java/lang/AbstractStringBuilder"))) (l0 : Nat) (l1 : Int32) (S : gS) (H : Heap) (locs : List Loc) (ls : Array Slot) (kc ks C N : Nat) (hkc : kc + C ≤ mc) (hks : ks + N ≤ ms) (hH : hp G Rp S H) (hS : va_S G.2.2.2 s.heap H locs) (hl : lv_has ls 2 [(0, .ref l0), (1, .int l1)]) (hf : fJ14_append_3_c19_b45 G l0 l1 S = some (r, Sf, C, N)) : W p l e (gR 4 130 mc ms) s m args below meth c H locs kc ks (gQ below G Rp (some (va_rf r)) Sf args s mc ms) (F0 m 45 ls []) := by
  obtain ⟨hx, hb, hr, hlk, hml, hown, hts, hE, hA, hnm⟩ := hc
  have hc : gC p s m args meth c G RJ14 "append" cJ14_append_3 2 (some (.object "java/lang/AbstractStringBuilder")) := ⟨hx, hb, hr, hlk, hml, hown, hts, hE, hA, hnm⟩
  unfold fJ14_append_3_c19_b45 at hf
  refine lv_aload_n (pc := 45) hx hb dJ14_append_3_45 rfl (lv_at hl 0 rfl) ?_
  obtain ⟨_, ek1, hf⟩ := bdo hf
  obtain ⟨v1, S1, c1, n1, c2_1, n2_1, e1, hf, hC1, hN1⟩ := gbo hf
  refine g_callVC (pc := 46) (o := (some l0)) (b := l0) (As := []) (rest := []) (st1 := [.int v1]) (C := "java/lang/StringBuilder") hc (mJ14_isLatin1_c19 hk (l0 := l0) e1) (cwP 0 hts (lw_meth q690) rfl rfl rfl (hts _ q686) (hts _ q687) (hts _ q117) (hts _ q689) jhdJ14_isLatin1.2 ⟨Nat.le_of_ble_eq_true rfl, Nat.le_of_ble_eq_true rfl⟩) (g_recv hE hk hH (ci := 19) (q := (RJ15, TJ15, 4)) rfl (chk_o ek1).choose_spec) rfl rfl hl.1 rfl rfl (lv_room (Nat.le_of_ble_eq_true rfl)) dJ14_append_3_46 hH hS (by omega) (by omega) (fun H locs hH hS => ?_)
  have hkc : kc + c1 + c2_1 ≤ mc := by omega
  have hks : ks + n1 + n2_1 ≤ ms := by omega
  refine lv_if_eq (pc := 49) (tgt := 56) hx hb dJ14_append_3_49 (by decide) (fun c2 => ?_) (fun c2 => ?_)
  · rw [if_pos c2] at hf
    refine lv_aload_n (pc := 56) hx hb dJ14_append_3_56 rfl (lv_at hl 0 rfl) ?_
    obtain ⟨v3, e3, hf⟩ := bdo hf
    refine g_get (pc := 57) (o := (some l0)) (a := l0) (ci := 19) (k := 0) (v := va_rf v3) (C := RJ15) (T := TJ15) (N := 4) hx hb hts hown hE hk hH in_J15 rfl (by decide) (hts _ q628) (fun _ h9 => h9) rfl (rdR_o e3) dJ14_append_3_57 ?_
    refine lv_aload_n (pc := 60) hx hb dJ14_append_3_60 rfl (lv_at hl 0 rfl) ?_
    refine lv_dup (pc := 61) hx hb dJ14_append_3_61 rfl ?_
    obtain ⟨v4, e4, hf⟩ := bdo hf
    refine g_get (pc := 62) (o := (some l0)) (a := l0) (ci := 19) (k := 3) (v := .int v4) (C := RJ15) (T := TJ15) (N := 4) hx hb hts hown hE hk hH in_J15 rfl (by decide) (hts _ q631) (fun _ h9 => h9) rfl (rdI_o e4) dJ14_append_3_62 ?_
    refine lv_dup_x1 (pc := 65) hx hb dJ14_append_3_65 rfl rfl ?_
    refine lv_iconst (pc := 66) (v := nI 1) hx hb dJ14_append_3_66 rfl ?_
    refine lv_iadd (pc := 67) hx hb dJ14_append_3_67 ?_
    obtain ⟨S5, e5, hf⟩ := bdo hf
    refine g_put (pc := 68) (o := (some l0)) (a := l0) (ci := 19) (k := 3) (v := .int (v4 + (nI 1))) (C := RJ15) (T := TJ15) (N := 4) (ty := .int) hx hb hts hown hE hk hH hS rfl in_J15 tyJ15_ok nmJ15 rfl (by decide) (hts _ q631) (fun _ h9 => h9) rfl rfl rfl rfl rfl e5 dJ14_append_3_68 (fun H locs hH hS => ?_)
    refine lv_iload_n (pc := 71) hx hb dJ14_append_3_71 rfl (lv_at hl 1 rfl) ?_
    exact absurd hf (fun h => by cases h)
  · rw [if_neg c2] at hf
    refine lv_aload_n (pc := 52) hx hb dJ14_append_3_52 rfl (lv_at hl 0 rfl) ?_
    exact absurd hf (fun h => by cases h)
def fJ14_append_3_c19 (G : gG) (l0 : Nat) (l1 : Int32) (S : gS) : gO (Option Nat) :=
  bd (rdI S l0 19 3) fun v1 =>
  bd (chk S l0 19) fun _ =>
  gb (fJ14_ensureCapacityInternal_c19 G l0 (v1 + (nI 1)) S) fun _ S2 =>
  bd (chk S2 l0 19) fun _ =>
  gb (fJ14_isLatin1_c19 G l0 S2) fun v3 S3 =>
  if v3 = 0 then
    fJ14_append_3_c19_b45 G l0 l1 S3
  else
    gb (fJ21_canEncode G l1 S3) fun v5 S5 =>
    if v5 = 0 then
      fJ14_append_3_c19_b45 G l0 l1 S5
    else
      bd (rdR S5 l0 19 0) fun v7 =>
      bd (rdI S5 l0 19 3) fun v8 =>
      bd (wr S5 l0 19 3 (.int (v8 + (nI 1)))) fun S9 =>
      bd v7 fun a10 =>
      bd (wrAn S9 a10 2 v8 l1.toInt8.toInt32) fun S11 =>
      some ((some l0), S11, 0, 0)
theorem wJ14_append_3_c19_b0 (hk : rOK Rp) (hc : gC p s m args meth c G RJ14 "append" cJ14_append_3 2 (some (.object "java/lang/AbstractStringBuilder"))) (l0 : Nat) (l1 : Int32) (S : gS) (H : Heap) (locs : List Loc) (ls : Array Slot) (kc ks C N : Nat) (hkc : kc + C ≤ mc) (hks : ks + N ≤ ms) (hH : hp G Rp S H) (hS : va_S G.2.2.2 s.heap H locs) (hl : lv_has ls 2 [(0, .ref l0), (1, .int l1)]) (hf : fJ14_append_3_c19 G l0 l1 S = some (r, Sf, C, N)) : W p l e (gR 4 130 mc ms) s m args below meth c H locs kc ks (gQ below G Rp (some (va_rf r)) Sf args s mc ms) (F0 m 0 ls []) := by
  obtain ⟨hx, hb, hr, hlk, hml, hown, hts, hE, hA, hnm⟩ := hc
  have hc : gC p s m args meth c G RJ14 "append" cJ14_append_3 2 (some (.object "java/lang/AbstractStringBuilder")) := ⟨hx, hb, hr, hlk, hml, hown, hts, hE, hA, hnm⟩
  unfold fJ14_append_3_c19 at hf
  refine lv_aload_n (pc := 0) hx hb dJ14_append_3_0 rfl (lv_at hl 0 rfl) ?_
  refine lv_aload_n (pc := 1) hx hb dJ14_append_3_1 rfl (lv_at hl 0 rfl) ?_
  obtain ⟨v1, e1, hf⟩ := bdo hf
  refine g_get (pc := 2) (o := (some l0)) (a := l0) (ci := 19) (k := 3) (v := .int v1) (C := RJ15) (T := TJ15) (N := 4) hx hb hts hown hE hk hH in_J15 rfl (by decide) (hts _ q631) (fun _ h9 => h9) rfl (rdI_o e1) dJ14_append_3_2 ?_
  refine lv_iconst (pc := 5) (v := nI 1) hx hb dJ14_append_3_5 rfl ?_
  refine lv_iadd (pc := 6) hx hb dJ14_append_3_6 ?_
  obtain ⟨_, ek2, hf⟩ := bdo hf
  obtain ⟨_, S2, c2, n2, c2_2, n2_2, e2, hf, hC2, hN2⟩ := gbo hf
  refine g_callVC (pc := 7) (o := (some l0)) (b := l0) (As := [.int (v1 + (nI 1))]) (rest := []) (st1 := []) (C := "java/lang/StringBuilder") hc (mJ14_ensureCapacityInternal_c19 hk (l0 := l0) (l1 := (v1 + (nI 1))) e2) (cwP 1 hts (lw_meth q656) rfl rfl rfl (hts _ q653) (hts _ q655) (hts _ q117) (va_Nw.use rfl (hE.2.2.2.2.2.2.2.2.2.2.2.2.2.2 _ (List.mem_of_getElem? (i := 0) rfl))) jhdJ14_ensureCapacityInternal.2 ⟨Nat.le_of_ble_eq_true rfl, Nat.le_of_ble_eq_true rfl⟩) (g_recv hE hk hH (ci := 19) (q := (RJ15, TJ15, 4)) rfl (chk_o ek2).choose_spec) rfl rfl hl.1 rfl rfl (lv_room (Nat.le_of_ble_eq_true rfl)) dJ14_append_3_7 hH hS (by omega) (by omega) (fun H locs hH hS => ?_)
  have hkc : kc + c2 + c2_2 ≤ mc := by omega
  have hks : ks + n2 + n2_2 ≤ ms := by omega
  refine lv_aload_n (pc := 10) hx hb dJ14_append_3_10 rfl (lv_at hl 0 rfl) ?_
  obtain ⟨_, ek3, hf⟩ := bdo hf
  obtain ⟨v3, S3, c3, n3, c2_3, n2_3, e3, hf, hC3, hN3⟩ := gbo hf
  refine g_callVC (pc := 11) (o := (some l0)) (b := l0) (As := []) (rest := []) (st1 := [.int v3]) (C := "java/lang/StringBuilder") hc (mJ14_isLatin1_c19 hk (l0 := l0) e3) (cwP 0 hts (lw_meth q690) rfl rfl rfl (hts _ q686) (hts _ q687) (hts _ q117) (hts _ q689) jhdJ14_isLatin1.2 ⟨Nat.le_of_ble_eq_true rfl, Nat.le_of_ble_eq_true rfl⟩) (g_recv hE hk hH (ci := 19) (q := (RJ15, TJ15, 4)) rfl (chk_o ek3).choose_spec) rfl rfl hl.1 rfl rfl (lv_room (Nat.le_of_ble_eq_true rfl)) dJ14_append_3_11 hH hS (by omega) (by omega) (fun H locs hH hS => ?_)
  have hkc : kc + c2 + c3 + c2_3 ≤ mc := by omega
  have hks : ks + n2 + n3 + n2_3 ≤ ms := by omega
  refine lv_if_eq (pc := 14) (tgt := 45) hx hb dJ14_append_3_14 (by decide) (fun c4 => ?_) (fun c4 => ?_)
  · rw [if_pos c4] at hf
    exact wJ14_append_3_c19_b45 hk hc l0 l1 S3 _ _ ls _ _ _ _ hkc hks hH hS (lv_sub hl [0, 1] rfl) hf
  · rw [if_neg c4] at hf
    refine lv_iload_n (pc := 17) hx hb dJ14_append_3_17 rfl (lv_at hl 1 rfl) ?_
    obtain ⟨v5, S5, c5, n5, c2_5, n2_5, e5, hf, hC5, hN5⟩ := gbo hf
    refine g_callS (pc := 18) (As := [.int l1]) (rest := []) (st1 := [.int v5]) hc (mJ21_canEncode hk (l0 := l1) e5) (va_cwS 1 hts (lw_S q960 q961 q124 q962) rfl rfl rfl jhdJ21_canEncode ⟨Nat.le_of_ble_eq_true rfl, Nat.le_of_ble_eq_true rfl⟩) rfl hl.1 rfl rfl (lv_room (Nat.le_of_ble_eq_true rfl)) dJ14_append_3_18 hH hS (by omega) (by omega) (fun H locs hH hS => ?_)
    have hkc : kc + c2 + c3 + c5 + c2_5 ≤ mc := by omega
    have hks : ks + n2 + n3 + n5 + n2_5 ≤ ms := by omega
    refine lv_if_eq (pc := 21) (tgt := 45) hx hb dJ14_append_3_21 (by decide) (fun c6 => ?_) (fun c6 => ?_)
    · rw [if_pos c6] at hf
      exact wJ14_append_3_c19_b45 hk hc l0 l1 S5 _ _ ls _ _ _ _ hkc hks hH hS (lv_sub hl [0, 1] rfl) hf
    · rw [if_neg c6] at hf
      refine lv_aload_n (pc := 24) hx hb dJ14_append_3_24 rfl (lv_at hl 0 rfl) ?_
      obtain ⟨v7, e7, hf⟩ := bdo hf
      refine g_get (pc := 25) (o := (some l0)) (a := l0) (ci := 19) (k := 0) (v := va_rf v7) (C := RJ15) (T := TJ15) (N := 4) hx hb hts hown hE hk hH in_J15 rfl (by decide) (hts _ q628) (fun _ h9 => h9) rfl (rdR_o e7) dJ14_append_3_25 ?_
      refine lv_aload_n (pc := 28) hx hb dJ14_append_3_28 rfl (lv_at hl 0 rfl) ?_
      refine lv_dup (pc := 29) hx hb dJ14_append_3_29 rfl ?_
      obtain ⟨v8, e8, hf⟩ := bdo hf
      refine g_get (pc := 30) (o := (some l0)) (a := l0) (ci := 19) (k := 3) (v := .int v8) (C := RJ15) (T := TJ15) (N := 4) hx hb hts hown hE hk hH in_J15 rfl (by decide) (hts _ q631) (fun _ h9 => h9) rfl (rdI_o e8) dJ14_append_3_30 ?_
      refine lv_dup_x1 (pc := 33) hx hb dJ14_append_3_33 rfl rfl ?_
      refine lv_iconst (pc := 34) (v := nI 1) hx hb dJ14_append_3_34 rfl ?_
      refine lv_iadd (pc := 35) hx hb dJ14_append_3_35 ?_
      obtain ⟨S9, e9, hf⟩ := bdo hf
      refine g_put (pc := 36) (o := (some l0)) (a := l0) (ci := 19) (k := 3) (v := .int (v8 + (nI 1))) (C := RJ15) (T := TJ15) (N := 4) (ty := .int) hx hb hts hown hE hk hH hS rfl in_J15 tyJ15_ok nmJ15 rfl (by decide) (hts _ q631) (fun _ h9 => h9) rfl rfl rfl rfl rfl e9 dJ14_append_3_36 (fun H locs hH hS => ?_)
      refine lv_iload_n (pc := 39) hx hb dJ14_append_3_39 rfl (lv_at hl 1 rfl) ?_
      refine lv_i2b (pc := 40) hx hb dJ14_append_3_40 rfl ?_
      obtain ⟨a10, ea10, hf⟩ := bdo hf
      obtain ⟨S11, e11, hf⟩ := bdo hf
      refine g_bast (pc := 41) (o := v7) (a := a10) hx hb hE hk hH hS ea10 e11 dJ14_append_3_41 (fun H locs hH hS => ?_)
      refine lv_goto (pc := 42) (tgt := 75) hx hb dJ14_append_3_42 (by decide) ?_
      refine lv_aload_n (pc := 75) hx hb dJ14_append_3_75 rfl (lv_at hl 0 rfl) ?_
      exact g_aret (pc := 76) (v := (some l0)) hx hb hr (Or.inl ⟨_, rfl⟩) hlk hH hS hkc hks hf dJ14_append_3_76
theorem mJ14_append_3_c19 {l : Launch} {G : gG} {Rp : gM → gM → Nat → Prop} (hk : rOK Rp) {S S2 : gS} {r2 : Option Nat} {C N : Nat} {l0 : Nat} {l1 : Int32} (hf : fJ14_append_3_c19 G l0 l1 S = some (r2, S2, C, N)) : gMet l yJ14_append_3 cJ14_append_3 2 (some (.object "java/lang/AbstractStringBuilder")) 4 130 G Rp [.ref l0, .int l1] S (some (va_rf r2)) S2 C N := by
  refine g_start (by decide) (Nat.le_of_ble_eq_true rfl) (fun p e s m args below meth c ls hc hl hH => ?_)
  have hl : lv_has ls 2 [(0, .ref l0), (1, .int l1)] := hl
  exact wJ14_append_3_c19_b0 hk hc l0 l1 S _ _ ls 0 0 C N (by omega) (by omega) hH va_S.rf (lv_sub hl [0, 1] rfl) hf
end
end
