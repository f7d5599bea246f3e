/-! printed by gen/jgen.py: methods of the JDK, lifted and walked at the plain level (6) -/
set_option maxRecDepth 100000
set_option maxHeartbeats 4000000
section
variable {p : Program} {l : Launch} {e : Env} {s : State} {m : MethodId} {args : Array Value} {below : List Frame} {meth : Method} {c : Code} {G : gG} {Rp : gM → gM → Nat → Prop} {mc ms : Nat}
section
variable {r : Int32} {Sf : gS}
def fJ40_hasNext (G : gG) (l0 : Nat) (S : gS) : gO Int32 :=
  bd (rdI S l0 24 1) fun v1 =>
  if v1 ≤ 0 then
    zg (nI 0) S
  else
    zg (nI 1) S
theorem wJ40_hasNext_b0 (hk : rOK Rp) (hc : gC p s m args meth c G RJ40 "hasNext" cJ40_hasNext 1 (some .boolean)) (l0 : Nat) (S : gS) (H : Heap) (locs : List Loc) (ls : Array Slot) (kc ks C N : Nat) (hkc : kc + C ≤ mc) (hks : ks + N ≤ ms) (hH : hp G Rp S H) (hS : va_S G.2.2.2 s.heap H locs) (hl : lv_has ls 1 [(0, .ref l0)]) (hf : fJ40_hasNext G l0 S = some (r, Sf, C, N)) : W p l e (gR 1 60 mc ms) s m args below meth c H locs kc ks (gQ below G Rp (some (.int r)) Sf args s mc ms) (F0 m 0 ls []) := by
  obtain ⟨hx, hb, hr, hlk, hml, hown, hts, hE, hA, hnm⟩ := hc
  have hc : gC p s m args meth c G RJ40 "hasNext" cJ40_hasNext 1 (some .boolean) := ⟨hx, hb, hr, hlk, hml, hown, hts, hE, hA, hnm⟩
  unfold fJ40_hasNext at hf
  refine lv_aload_n (pc := 0) hx hb dJ40_hasNext_0 rfl (lv_at hl 0 rfl) ?_
  obtain ⟨v1, e1, hf⟩ := bdo hf
  refine g_get (pc := 1) (o := (some l0)) (a := l0) (ci := 24) (k := 1) (v := .int v1) (C := RJ40) (T := TJ40) (N := 4) hx hb hts hown hE hk hH in_J40 rfl (by decide) (hts _ q2660) (fun _ h9 => h9) rfl (rdI_o e1) dJ40_hasNext_1 ?_
  refine lv_if_le (pc := 4) (tgt := 11) hx hb dJ40_hasNext_4 (by decide) (fun c2 => ?_) (fun c2 => ?_)
  · rw [if_pos c2] at hf
    refine lv_iconst (pc := 11) (v := nI 0) hx hb dJ40_hasNext_11 rfl ?_
    exact g_zret (pc := 12) hx hb hr hlk hH hS hkc hks hf dJ40_hasNext_12
  · rw [if_neg c2] at hf
    refine lv_iconst (pc := 7) (v := nI 1) hx hb dJ40_hasNext_7 rfl ?_
    refine lv_goto (pc := 8) (tgt := 12) hx hb dJ40_hasNext_8 (by decide) ?_
    exact g_zret (pc := 12) hx hb hr hlk hH hS hkc hks hf dJ40_hasNext_12
theorem mJ40_hasNext {l : Launch} {G : gG} {Rp : gM → gM → Nat → Prop} (hk : rOK Rp) {S S2 : gS} {r2 : Int32} {C N : Nat} {l0 : Nat} (hf : fJ40_hasNext G l0 S = some (r2, S2, C, N)) : gMet l yJ40_hasNext cJ40_hasNext 1 (some .boolean) 1 60 G Rp [.ref l0] S (some (.int r2)) S2 C N := by
  refine g_start (by decide) (Nat.le_of_ble_eq_true rfl) (fun p e s m args below meth c ls hc hl hH => ?_)
  have hl : lv_has ls 1 [(0, .ref l0)] := hl
  exact wJ40_hasNext_b0 hk hc l0 S _ _ ls 0 0 C N (by omega) (by omega) hH va_S.rf (lv_sub hl [0] rfl) hf
end
section
variable {r : Option Nat} {Sf : gS}
def fJ28_nonNullElementAt (G : gG) (l0 : Option Nat) (l1 : Int32) (S : gS) : gO (Option Nat) :=
  bd l0 fun a1 =>
  bd (rdAq S a1 5 l1) fun v2 =>
  if v2 = none then
    none
  else
    some (v2, S, 0, 0)
theorem wJ28_nonNullElementAt_b0 (hk : rOK Rp) (hc : gC p s m args meth c G RJ28 "nonNullElementAt" cJ28_nonNullElementAt 3 (some (.object "java/lang/Object"))) (l0 : Option Nat) (l1 : Int32) (S : gS) (H : Heap) (locs : List Loc) (ls : Array Slot) (kc ks C N : Nat) (hkc : kc + C ≤ mc) (hks : ks + N ≤ ms) (hH : hp G Rp S H) (hS : va_S G.2.2.2 s.heap H locs) (hl : lv_has ls 3 [(0, va_rf l0), (1, .int l1)]) (hf : fJ28_nonNullElementAt G l0 l1 S = some (r, Sf, C, N)) : W p l e (gR 1 60 mc ms) s m args below meth c H locs kc ks (gQ below G Rp (some (va_rf r)) Sf args s mc ms) (F0 m 0 ls []) := by
  obtain ⟨hx, hb, hr, hlk, hml, hown, hts, hE, hA, hnm⟩ := hc
  have hc : gC p s m args meth c G RJ28 "nonNullElementAt" cJ28_nonNullElementAt 3 (some (.object "java/lang/Object")) := ⟨hx, hb, hr, hlk, hml, hown, hts, hE, hA, hnm⟩
  unfold fJ28_nonNullElementAt at hf
  refine g_aload_n (pc := 0) (o := l0) hx hb dJ28_nonNullElementAt_0 rfl (lv_at hl 0 rfl) ?_
  refine lv_iload_n (pc := 1) hx hb dJ28_nonNullElementAt_1 rfl (lv_at hl 1 rfl) ?_
  obtain ⟨a1, ea1, hf⟩ := bdo hf
  obtain ⟨v2, e2, hf⟩ := bdo hf
  refine g_aald (pc := 2) (o := l0) (a := a1) (t := 5) (t0 := 5) hx hb hE hk hH rfl ea1 e2 dJ28_nonNullElementAt_2 ?_
  refine g_astore_n (pc := 3) (i := 2) (o := v2) (lv' := [(2, va_rf v2), (0, va_rf l0), (1, .int l1)]) hx hb dJ28_nonNullElementAt_3 rfl hl (by decide) rfl (fun ls hl => ?_)
  refine g_aload_n (pc := 4) (o := v2) hx hb dJ28_nonNullElementAt_4 rfl (lv_at hl 0 rfl) ?_
  refine g_ifnonnull (pc := 5) (o := v2) (tgt := 16) hx hb dJ28_nonNullElementAt_5 (by decide) (fun c3 => ?_) (fun c3 => ?_)
  · rw [if_neg c3] at hf
    refine g_aload_n (pc := 16) (o := v2) hx hb dJ28_nonNullElementAt_16 rfl (lv_at hl 0 rfl) ?_
    exact g_aret (pc := 17) (v := v2) hx hb hr (Or.inl ⟨_, rfl⟩) hlk hH hS hkc hks hf dJ28_nonNullElementAt_17
  · rw [if_pos c3] at hf
    exact absurd hf (fun h => by cases h)
theorem mJ28_nonNullElementAt {l : Launch} {G : gG} {Rp : gM → gM → Nat → Prop} (hk : rOK Rp) {S S2 : gS} {r2 : Option Nat} {C N : Nat} {l0 : Option Nat} {l1 : Int32} (hf : fJ28_nonNullElementAt G l0 l1 S = some (r2, S2, C, N)) : gMet l yJ28_nonNullElementAt cJ28_nonNullElementAt 3 (some (.object "java/lang/Object")) 1 60 G Rp [va_rf l0, .int l1] S (some (va_rf r2)) S2 C N := by
  refine g_start (by decide) (by simp [lg_sl, va_rf_cat, cat_i, cat_j, cat_r]) (fun p e s m args below meth c ls hc hl hH => ?_)
  have hl : lv_has ls 3 [(0, va_rf l0), (1, .int l1)] := by simpa [lv_args, va_rf_cat, cat_i, cat_j, cat_r] using hl
  exact wJ28_nonNullElementAt_b0 hk hc l0 l1 S _ _ ls 0 0 C N (by omega) (by omega) hH va_S.rf (lv_sub hl [0, 1] rfl) hf
end
section
variable {r : Option Nat} {Sf : gS}
def fJ40_next (G : gG) (l0 : Nat) (S : gS) : gO (Option Nat) :=
  bd (rdI S l0 24 1) fun v1 =>
  if 0 < v1 then
    bd (rdR S l0 24 3) fun v3 =>
    bd v3 fun a4 =>
    bd (rdR S a4 18 0) fun v5 =>
    bd (rdI S l0 24 0) fun v6 =>
    gb (fJ28_nonNullElementAt G v5 v6 S) fun v7 S7 =>
    bd (rdI S7 l0 24 0) fun v8 =>
    bd (wr S7 l0 24 2 (.int v8)) fun S9 =>
    bd v5 fun a10 =>
    bd (lenQ G S9 a10) fun v11 =>
    gb (fJ28_inc G v8 v11 S9) fun v12 S12 =>
    bd (wr S12 l0 24 0 (.int v12)) fun S13 =>
    bd (rdI S13 l0 24 1) fun v14 =>
    bd (wr S13 l0 24 1 (.int (v14 - (nI 1)))) fun S15 =>
    some (v7, S15, 0, 0)
  else
    none
theorem wJ40_next_b0 (hk : rOK Rp) (hc : gC p s m args meth c G RJ40 "next" cJ40_next 3 (some (.object "java/lang/Object"))) (l0 : Nat) (S : gS) (H : Heap) (locs : List Loc) (ls : Array Slot) (kc ks C N : Nat) (hkc : kc + C ≤ mc) (hks : ks + N ≤ ms) (hH : hp G Rp S H) (hS : va_S G.2.2.2 s.heap H locs) (hl : lv_has ls 3 [(0, .ref l0)]) (hf : fJ40_next G l0 S = some (r, Sf, C, N)) : W p l e (gR 2 82 mc ms) s m args below meth c H locs kc ks (gQ below G Rp (some (va_rf r)) Sf args s mc ms) (F0 m 0 ls []) := by
  obtain ⟨hx, hb, hr, hlk, hml, hown, hts, hE, hA, hnm⟩ := hc
  have hc : gC p s m args meth c G RJ40 "next" cJ40_next 3 (some (.object "java/lang/Object")) := ⟨hx, hb, hr, hlk, hml, hown, hts, hE, hA, hnm⟩
  unfold fJ40_next at hf
  refine lv_aload_n (pc := 0) hx hb dJ40_next_0 rfl (lv_at hl 0 rfl) ?_
  obtain ⟨v1, e1, hf⟩ := bdo hf
  refine g_get (pc := 1) (o := (some l0)) (a := l0) (ci := 24) (k := 1) (v := .int v1) (C := RJ40) (T := TJ40) (N := 4) hx hb hts hown hE hk hH in_J40 rfl (by decide) (hts _ q2660) (fun _ h9 => h9) rfl (rdI_o e1) dJ40_next_1 ?_
  refine lv_if_gt (pc := 4) (tgt := 15) hx hb dJ40_next_4 (by decide) (fun c2 => ?_) (fun c2 => ?_)
  · rw [if_pos c2] at hf
    refine lv_aload_n (pc := 15) hx hb dJ40_next_15 rfl (lv_at hl 0 rfl) ?_
    obtain ⟨v3, e3, hf⟩ := bdo hf
    refine g_get (pc := 16) (o := (some l0)) (a := l0) (ci := 24) (k := 3) (v := va_rf v3) (C := RJ40) (T := TJ40) (N := 4) hx hb hts hown hE hk hH in_J40 rfl (by decide) (hts _ q2662) (fun _ h9 => h9) rfl (rdR_o e3) dJ40_next_16 ?_
    obtain ⟨a4, ea4, hf⟩ := bdo hf
    obtain ⟨v5, e5, hf⟩ := bdo hf
    refine g_get (pc := 19) (o := v3) (a := a4) (ci := 18) (k := 0) (v := va_rf v5) (C := RJ28) (T := TJ28) (N := 3) hx hb hts hown hE hk hH in_J28 rfl (by decide) (hts _ q2391) (fun _ h9 => h9) ea4 (rdR_o e5) dJ40_next_19 ?_
    refine g_astore_n (pc := 22) (i := 1) (o := v5) (lv' := [(1, va_rf v5), (0, .ref l0)]) hx hb dJ40_next_22 rfl hl (by decide) rfl (fun ls hl => ?_)
    refine g_aload_n (pc := 23) (o := v5) hx hb dJ40_next_23 rfl (lv_at hl 0 rfl) ?_
    refine lv_aload_n (pc := 24) hx hb dJ40_next_24 rfl (lv_at hl 1 rfl) ?_
    obtain ⟨v6, e6, hf⟩ := bdo hf
    refine g_get (pc := 25) (o := (some l0)) (a := l0) (ci := 24) (k := 0) (v := .int v6) (C := RJ40) (T := TJ40) (N := 4) hx hb hts hown hE hk hH in_J40 rfl (by decide) (hts _ q2659) (fun _ h9 => h9) rfl (rdI_o e6) dJ40_next_25 ?_
    obtain ⟨v7, S7, c7, n7, c2_7, n2_7, e7, hf, hC7, hN7⟩ := gbo hf
    refine g_callS (pc := 28) (As := [va_rf v5, .int v6]) (rest := []) (st1 := [va_rf v7]) hc (mJ28_nonNullElementAt hk (l0 := v5) (l1 := v6) e7) (va_cwS 2 hts (lw_S q1466 q1467 q137 q1468) rfl rfl rfl jhdJ28_nonNullElementAt ⟨Nat.le_of_ble_eq_true rfl, Nat.le_of_ble_eq_true rfl⟩) rfl hl.1 rfl rfl (lv_room (Nat.le_of_ble_eq_true rfl)) dJ40_next_28 hH hS (by omega) (by omega) (fun H locs hH hS => ?_)
    have hkc : kc + c7 + c2_7 ≤ mc := by omega
    have hks : ks + n7 + n2_7 ≤ ms := by omega
    refine g_astore_n (pc := 31) (i := 2) (o := v7) (lv' := [(2, va_rf v7), (1, va_rf v5), (0, .ref l0)]) hx hb dJ40_next_31 rfl hl (by decide) (by simp [va_rf_cat, cat_i, cat_j, cat_r] <;> rfl) (fun ls hl => ?_)
    refine lv_aload_n (pc := 32) hx hb dJ40_next_32 rfl (lv_at hl 2 rfl) ?_
    refine lv_aload_n (pc := 33) hx hb dJ40_next_33 rfl (lv_at hl 2 rfl) ?_
    refine lv_aload_n (pc := 34) hx hb dJ40_next_34 rfl (lv_at hl 2 rfl) ?_
    obtain ⟨v8, e8, hf⟩ := bdo hf
    refine g_get (pc := 35) (o := (some l0)) (a := l0) (ci := 24) (k := 0) (v := .int v8) (C := RJ40) (T := TJ40) (N := 4) hx hb hts hown hE hk hH in_J40 rfl (by decide) (hts _ q2659) (fun _ h9 => h9) rfl (rdI_o e8) dJ40_next_35 ?_
    refine lv_dup_x1 (pc := 38) hx hb dJ40_next_38 rfl rfl ?_
    obtain ⟨S9, e9, hf⟩ := bdo hf
    refine g_put (pc := 39) (o := (some l0)) (a := l0) (ci := 24) (k := 2) (v := .int v8) (C := RJ40) (T := TJ40) (N := 4) (ty := .int) hx hb hts hown hE hk hH hS rfl in_J40 tyJ40_ok nmJ40 rfl (by decide) (hts _ q2661) (fun _ h9 => h9) rfl rfl rfl rfl rfl e9 dJ40_next_39 (fun H locs hH hS => ?_)
    refine g_aload_n (pc := 42) (o := v5) hx hb dJ40_next_42 rfl (lv_at hl 1 rfl) ?_
    obtain ⟨a10, ea10, hf⟩ := bdo hf
    obtain ⟨v11, e11, hf⟩ := bdo hf
    refine g_lenQ (pc := 43) (o := v5) (a := a10) hx hb hE hk hH hS ea10 e11 dJ40_next_43 ?_
    obtain ⟨v12, S12, c12, n12, c2_12, n2_12, e12, hf, hC12, hN12⟩ := gbo hf
    refine g_callS (pc := 44) (As := [.int v8, .int v11]) (rest := [.ref l0]) (st1 := [.int v12, .ref l0]) hc (mJ28_inc hk (l0 := v8) (l1 := v11) e12) (va_cwS 2 hts (lw_S q1469 q1470 q137 q1471) rfl rfl rfl jhdJ28_inc ⟨Nat.le_of_ble_eq_true rfl, Nat.le_of_ble_eq_true rfl⟩) rfl hl.1 rfl rfl (lv_room (Nat.le_of_ble_eq_true rfl)) dJ40_next_44 hH hS (by omega) (by omega) (fun H locs hH hS => ?_)
    have hkc : kc + c7 + c12 + c2_12 ≤ mc := by omega
    have hks : ks + n7 + n12 + n2_12 ≤ ms := by omega
    obtain ⟨S13, e13, hf⟩ := bdo hf
    refine g_put (pc := 47) (o := (some l0)) (a := l0) (ci := 24) (k := 0) (v := .int v12) (C := RJ40) (T := TJ40) (N := 4) (ty := .int) hx hb hts hown hE hk hH hS rfl in_J40 tyJ40_ok nmJ40 rfl (by decide) (hts _ q2659) (fun _ h9 => h9) rfl rfl rfl rfl rfl e13 dJ40_next_47 (fun H locs hH hS => ?_)
    refine lv_aload_n (pc := 50) hx hb dJ40_next_50 rfl (lv_at hl 2 rfl) ?_
    refine lv_dup (pc := 51) hx hb dJ40_next_51 rfl ?_
    obtain ⟨v14, e14, hf⟩ := bdo hf
    refine g_get (pc := 52) (o := (some l0)) (a := l0) (ci := 24) (k := 1) (v := .int v14) (C := RJ40) (T := TJ40) (N := 4) hx hb hts hown hE hk hH in_J40 rfl (by decide) (hts _ q2660) (fun _ h9 => h9) rfl (rdI_o e14) dJ40_next_52 ?_
    refine lv_iconst (pc := 55) (v := nI 1) hx hb dJ40_next_55 rfl ?_
    refine lv_isub (pc := 56) hx hb dJ40_next_56 ?_
    obtain ⟨S15, e15, hf⟩ := bdo hf
    refine g_put (pc := 57) (o := (some l0)) (a := l0) (ci := 24) (k := 1) (v := .int (v14 - (nI 1))) (C := RJ40) (T := TJ40) (N := 4) (ty := .int) hx hb hts hown hE hk hH hS rfl in_J40 tyJ40_ok nmJ40 rfl (by decide) (hts _ q2660) (fun _ h9 => h9) rfl rfl rfl rfl rfl e15 dJ40_next_57 (fun H locs hH hS => ?_)
    refine g_aload_n (pc := 60) (o := v7) hx hb dJ40_next_60 rfl (lv_at hl 0 rfl) ?_
    exact g_aret (pc := 61) (v := v7) hx hb hr (Or.inl ⟨_, rfl⟩) hlk hH hS hkc hks hf dJ40_next_61
  · rw [if_neg c2] at hf
    exact absurd hf (fun h => by cases h)
theorem mJ40_next {l : Launch} {G : gG} {Rp : gM → gM → Nat → Prop} (hk : rOK Rp) {S S2 : gS} {r2 : Option Nat} {C N : Nat} {l0 : Nat} (hf : fJ40_next G l0 S = some (r2, S2, C, N)) : gMet l yJ40_next cJ40_next 3 (some (.object "java/lang/Object")) 2 82 G Rp [.ref l0] S (some (va_rf r2)) S2 C N := by
  refine g_start (by decide) (Nat.le_of_ble_eq_true rfl) (fun p e s m args below meth c ls hc hl hH => ?_)
  have hl : lv_has ls 3 [(0, .ref l0)] := hl
  exact wJ40_next_b0 hk hc l0 S _ _ ls 0 0 C N (by omega) (by omega) hH va_S.rf (lv_sub hl [0] rfl) hf
end
end
