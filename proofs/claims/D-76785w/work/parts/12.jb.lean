/-! printed by gen/jgen.py: methods of the JDK, lifted and walked at the plain level (2) -/
set_option maxRecDepth 100000
set_option maxHeartbeats 4000000
section
variable {p : Program} {l : Launch} {e : Env} {s : State} {m : MethodId} {args : Array Value} {below : List Frame} {meth : Method} {c : Code} {G : gG} {Rp : gM → gM → Nat → Prop} {mc ms : Nat}
section
variable {r : Unit} {Sf : gS}
def fJ26_init (G : gG) (l0 : Nat) (l1 : Option Nat) (S : gS) : gO Unit :=
  bd (wr S l0 21 3 (va_rf l1)) fun S1 =>
  bd (wr S1 l0 21 1 (.int (-1))) fun S3 =>
  bd (rdR S3 l0 21 3) fun v4 =>
  bd v4 fun a5 =>
  bd (rdI S3 a5 15 0) fun v6 =>
  bd (wr S3 l0 21 2 (.int v6)) fun S7 =>
  some ((), S7, 0, 0)
theorem wJ26_init_b0 (hk : rOK Rp) (hc : gC p s m args meth c G RJ26 "<init>" cJ26_init 2 (none)) (l0 : Nat) (l1 : Option Nat) (S : gS) (H : Heap) (locs : List Loc) (ls : Array Slot) (kc ks C N : Nat) (hkc : kc + C ≤ mc) (hks : ks + N ≤ ms) (hH : hp G Rp S H) (hS : va_S G.2.2.2 s.heap H locs) (hl : lv_has ls 2 [(0, .ref l0), (1, va_rf l1)]) (hf : fJ26_init G l0 l1 S = some (r, Sf, C, N)) : W p l e (gR 1 60 mc ms) s m args below meth c H locs kc ks (gQ below G Rp none Sf args s mc ms) (F0 m 0 ls []) := by
  obtain ⟨hx, hb, hr, hlk, hml, hown, hts, hE, hA, hnm⟩ := hc
  have hc : gC p s m args meth c G RJ26 "<init>" cJ26_init 2 (none) := ⟨hx, hb, hr, hlk, hml, hown, hts, hE, hA, hnm⟩
  unfold fJ26_init at hf
  refine lv_aload_n (pc := 0) hx hb dJ26_init_0 rfl (lv_at hl 0 rfl) ?_
  refine g_aload_n (pc := 1) (o := l1) hx hb dJ26_init_1 rfl (lv_at hl 1 rfl) ?_
  obtain ⟨S1, e1, hf⟩ := bdo hf
  refine g_putF (pc := 2) (o := (some l0)) (a := l0) (ci := 21) (k := 3) (v := va_rf l1) (C := RJ26) (T := TJ26) (N := 4) (ty := .object "java/util/ArrayList") hx hb hts hown hE hk hH hS rfl in_J26 tyJ26_ok nmJ26 rfl (by decide) (hts _ q1307) (fun _ h9 => h9) rfl hnm rfl rfl (nar_rf _ _) (fit_rf _ _) rfl e1 dJ26_init_2 (fun H locs hH hS => ?_)
  refine lv_aload_n (pc := 5) hx hb dJ26_init_5 rfl (lv_at hl 0 rfl) ?_
  refine W.objInit  hx hb hown (hts _ q1301) (hts _ q169) (hts _ q170) rfl (by rw [hml]; exact hl.1) rfl dJ26_init_6 (Nat.le_of_ble_eq_true rfl) (Nat.le_of_ble_eq_true rfl) ?_
  refine W.eq (g2 := F0 m 9 ls []) rfl ?_
  refine lv_aload_n (pc := 9) hx hb dJ26_init_9 rfl (lv_at hl 0 rfl) ?_
  refine lv_iconst (pc := 10) (v := -1) hx hb dJ26_init_10 rfl ?_
  obtain ⟨S3, e3, hf⟩ := bdo hf
  refine g_put (pc := 11) (o := (some l0)) (a := l0) (ci := 21) (k := 1) (v := .int (-1)) (C := RJ26) (T := TJ26) (N := 4) (ty := .int) hx hb hts hown hE hk hH hS rfl in_J26 tyJ26_ok nmJ26 rfl (by decide) (hts _ q1305) (fun _ h9 => h9) rfl rfl rfl rfl rfl e3 dJ26_init_11 (fun H locs hH hS => ?_)
  refine lv_aload_n (pc := 14) hx hb dJ26_init_14 rfl (lv_at hl 0 rfl) ?_
  refine lv_aload_n (pc := 15) hx hb dJ26_init_15 rfl (lv_at hl 0 rfl) ?_
  obtain ⟨v4, e4, hf⟩ := bdo hf
  refine g_get (pc := 16) (o := (some l0)) (a := l0) (ci := 21) (k := 3) (v := va_rf v4) (C := RJ26) (T := TJ26) (N := 4) hx hb hts hown hE hk hH in_J26 rfl (by decide) (hts _ q1307) (fun _ h9 => h9) rfl (rdR_o e4) dJ26_init_16 ?_
  obtain ⟨a5, ea5, hf⟩ := bdo hf
  obtain ⟨v6, e6, hf⟩ := bdo hf
  refine g_get (pc := 19) (o := v4) (a := a5) (ci := 15) (k := 0) (v := .int v6) (C := RJ2) (T := TJ2) (N := 3) hx hb hts hown hE hk hH in_J2 rfl (by decide) (hts _ q198) (fun x h9 => u_same (hts _ q199) x h9) ea5 (rdI_o e6) dJ26_init_19 ?_
  obtain ⟨S7, e7, hf⟩ := bdo hf
  refine g_put (pc := 22) (o := (some l0)) (a := l0) (ci := 21) (k := 2) (v := .int v6) (C := RJ26) (T := TJ26) (N := 4) (ty := .int) hx hb hts hown hE hk hH hS rfl in_J26 tyJ26_ok nmJ26 rfl (by decide) (hts _ q1306) (fun _ h9 => h9) rfl rfl rfl rfl rfl e7 dJ26_init_22 (fun H locs hH hS => ?_)
  exact g_vret (pc := 25) hx hb hr hlk hH hS hkc hks hf dJ26_init_25
theorem mJ26_init {l : Launch} {G : gG} {Rp : gM → gM → Nat → Prop} (hk : rOK Rp) {S S2 : gS} {r2 : Unit} {C N : Nat} {l0 : Nat} {l1 : Option Nat} (hf : fJ26_init G l0 l1 S = some (r2, S2, C, N)) : gMet l yJ26_init cJ26_init 2 (none) 1 60 G Rp [.ref l0, va_rf l1] S none S2 C N := by
  refine g_start (by decide) (by simp [lg_sl, va_rf_cat, cat_i, cat_j, cat_r]) (fun p e s m args below meth c ls hc hl hH => ?_)
  have hl : lv_has ls 2 [(0, .ref l0), (1, va_rf l1)] := by simpa [lv_args, va_rf_cat, cat_i, cat_j, cat_r] using hl
  exact wJ26_init_b0 hk hc l0 l1 S _ _ ls 0 0 C N (by omega) (by omega) hH va_S.rf (lv_sub hl [0, 1] rfl) hf
end
section
variable {r : Option Nat} {Sf : gS}
def fJ2_iterator (G : gG) (l0 : Nat) (S : gS) : gO (Option Nat) :=
  nw S (cO 21 [.int 0, .int 0, .int 0, .null]) 4 fun S1 =>
  gb (fJ26_init G S.2 (some l0) S1) fun _ S2 =>
  some ((some S.2), S2, 0, 0)
theorem wJ2_iterator_b0 (hk : rOK Rp) (hc : gC p s m args meth c G RJ2 "iterator" cJ2_iterator 1 (some (.object "java/util/Iterator"))) (l0 : Nat) (S : gS) (H : Heap) (locs : List Loc) (ls : Array Slot) (kc ks C N : Nat) (hkc : kc + C ≤ mc) (hks : ks + N ≤ ms) (hH : hp G Rp S H) (hS : va_S G.2.2.2 s.heap H locs) (hl : lv_has ls 1 [(0, .ref l0)]) (hf : fJ2_iterator G l0 S = some (r, Sf, C, N)) : W p l e (gR 2 81 mc ms) s m args below meth c H locs kc ks (gQ below G Rp (some (va_rf r)) Sf args s mc ms) (F0 m 0 ls []) := by
  obtain ⟨hx, hb, hr, hlk, hml, hown, hts, hE, hA, hnm⟩ := hc
  have hc : gC p s m args meth c G RJ2 "iterator" cJ2_iterator 1 (some (.object "java/util/Iterator")) := ⟨hx, hb, hr, hlk, hml, hown, hts, hE, hA, hnm⟩
  unfold fJ2_iterator at hf
  obtain ⟨S1, c2_1, n2_1, eS1, hf, hC1, hN1⟩ := nwo hf
  refine g_newo (pc := 0) (ci := 21) (C := RJ26) (T := TJ26) (N := 4) (fs := [.int 0, .int 0, .int 0, .null]) hx hb hts hown hE hA hk hH hS in_J26 tyJ26_ok q1296 q1297 q135 rfl (fun j hj => by rcases (show j = 0 ∨ j = 1 ∨ j = 2 ∨ j = 3 by omega) with rfl | rfl | rfl | rfl <;> rfl) eS1 (Nat.le_trans (by omega) hkc) (Nat.le_trans (by omega) hks) dJ2_iterator_0 (fun H hH hS => ?_)
  have hkc : kc + 1 + c2_1 ≤ mc := by omega
  have hks : ks + 4 + n2_1 ≤ ms := by omega
  refine lv_dup (pc := 3) hx hb dJ2_iterator_3 rfl ?_
  refine lv_aload_n (pc := 4) hx hb dJ2_iterator_4 rfl (lv_at hl 0 rfl) ?_
  obtain ⟨_, S2, c2, n2, c2_2, n2_2, e2, hf, hC2, hN2⟩ := gbo hf
  refine g_callI (pc := 5) (o := (some S.2)) (b := S.2) (As := [.ref l0]) (rest := [.ref S.2]) hc (mJ26_init hk (l0 := S.2) (l1 := (some l0)) e2) (cwI 1 hts (lw_meth q1300) rfl rfl rfl (hts _ q135) (hts _ q1298) (hts _ q1299) rfl jhdiJ26_init ⟨Nat.le_of_ble_eq_true rfl, Nat.le_of_ble_eq_true rfl⟩) rfl rfl hl.1 rfl (lv_room (Nat.le_of_ble_eq_true rfl)) dJ2_iterator_5 hH hS (by omega) (by omega) (fun H locs hH hS => ?_)
  have hkc : kc + 1 + c2 + c2_2 ≤ mc := by omega
  have hks : ks + 4 + n2 + n2_2 ≤ ms := by omega
  exact g_aret (pc := 8) (v := (some S.2)) hx hb hr (Or.inl ⟨_, rfl⟩) hlk hH hS hkc hks hf dJ2_iterator_8
theorem mJ2_iterator {l : Launch} {G : gG} {Rp : gM → gM → Nat → Prop} (hk : rOK Rp) {S S2 : gS} {r2 : Option Nat} {C N : Nat} {l0 : Nat} (hf : fJ2_iterator G l0 S = some (r2, S2, C, N)) : gMet l yJ2_iterator cJ2_iterator 1 (some (.object "java/util/Iterator")) 2 81 G Rp [.ref l0] S (some (va_rf r2)) S2 C N := by
  refine g_start (by decide) (Nat.le_of_ble_eq_true rfl) (fun p e s m args below meth c ls hc hl hH => ?_)
  have hl : lv_has ls 1 [(0, .ref l0)] := hl
  exact wJ2_iterator_b0 hk hc l0 S _ _ ls 0 0 C N (by omega) (by omega) hH va_S.rf (lv_sub hl [0] rfl) hf
end
section
variable {r : Unit} {Sf : gS}
def fJ0_init_c16 (G : gG) (l0 : Nat) (S : gS) : gO Unit :=
  some ((), S, 0, 0)
theorem wJ0_init_c16_b0 (hk : rOK Rp) (hc : gC p s m args meth c G RJ0 "<init>" cJ0_init 1 (none)) (l0 : Nat) (S : gS) (H : Heap) (locs : List Loc) (ls : Array Slot) (kc ks C N : Nat) (hkc : kc + C ≤ mc) (hks : ks + N ≤ ms) (hH : hp G Rp S H) (hS : va_S G.2.2.2 s.heap H locs) (hl : lv_has ls 1 [(0, .ref l0)]) (hf : fJ0_init_c16 G l0 S = some (r, Sf, C, N)) : W p l e (gR 1 60 mc ms) s m args below meth c H locs kc ks (gQ below G Rp none Sf args s mc ms) (F0 m 0 ls []) := by
  obtain ⟨hx, hb, hr, hlk, hml, hown, hts, hE, hA, hnm⟩ := hc
  have hc : gC p s m args meth c G RJ0 "<init>" cJ0_init 1 (none) := ⟨hx, hb, hr, hlk, hml, hown, hts, hE, hA, hnm⟩
  unfold fJ0_init_c16 at hf
  refine lv_aload_n (pc := 0) hx hb dJ0_init_0 rfl (lv_at hl 0 rfl) ?_
  refine W.objInit  hx hb hown (hts _ q188) (hts _ q169) (hts _ q170) rfl (by rw [hml]; exact hl.1) rfl dJ0_init_1 (Nat.le_of_ble_eq_true rfl) (Nat.le_of_ble_eq_true rfl) ?_
  refine W.eq (g2 := F0 m 4 ls []) rfl ?_
  exact g_vret (pc := 4) hx hb hr hlk hH hS hkc hks hf dJ0_init_4
theorem mJ0_init_c16 {l : Launch} {G : gG} {Rp : gM → gM → Nat → Prop} (hk : rOK Rp) {S S2 : gS} {r2 : Unit} {C N : Nat} {l0 : Nat} (hf : fJ0_init_c16 G l0 S = some (r2, S2, C, N)) : gMet l yJ0_init cJ0_init 1 (none) 1 60 G Rp [.ref l0] S none S2 C N := by
  refine g_start (by decide) (Nat.le_of_ble_eq_true rfl) (fun p e s m args below meth c ls hc hl hH => ?_)
  have hl : lv_has ls 1 [(0, .ref l0)] := hl
  exact wJ0_init_c16_b0 hk hc l0 S _ _ ls 0 0 C N (by omega) (by omega) hH va_S.rf (lv_sub hl [0] rfl) hf
end
section
variable {r : Unit} {Sf : gS}
def fJ1_init_c16 (G : gG) (l0 : Nat) (S : gS) : gO Unit :=
  gb (fJ0_init_c16 G l0 S) fun _ S1 =>
  bd (wr S1 l0 16 0 (.int (nI 0))) fun S2 =>
  some ((), S2, 0, 0)
theorem wJ1_init_c16_b0 (hk : rOK Rp) (hc : gC p s m args meth c G RJ1 "<init>" cJ1_init 1 (none)) (l0 : Nat) (S : gS) (H : Heap) (locs : List Loc) (ls : Array Slot) (kc ks C N : Nat) (hkc : kc + C ≤ mc) (hks : ks + N ≤ ms) (hH : hp G Rp S H) (hS : va_S G.2.2.2 s.heap H locs) (hl : lv_has ls 1 [(0, .ref l0)]) (hf : fJ1_init_c16 G l0 S = some (r, Sf, C, N)) : W p l e (gR 2 80 mc ms) s m args below meth c H locs kc ks (gQ below G Rp none Sf args s mc ms) (F0 m 0 ls []) := by
  obtain ⟨hx, hb, hr, hlk, hml, hown, hts, hE, hA, hnm⟩ := hc
  have hc : gC p s m args meth c G RJ1 "<init>" cJ1_init 1 (none) := ⟨hx, hb, hr, hlk, hml, hown, hts, hE, hA, hnm⟩
  unfold fJ1_init_c16 at hf
  refine lv_aload_n (pc := 0) hx hb dJ1_init_0 rfl (lv_at hl 0 rfl) ?_
  obtain ⟨_, S1, c1, n1, c2_1, n2_1, e1, hf, hC1, hN1⟩ := gbo hf
  refine g_callI (pc := 1) (o := (some l0)) (b := l0) (As := []) (rest := []) hc (mJ0_init_c16 hk (l0 := l0) e1) (cwI 0 hts (lw_meth q187) rfl rfl rfl (hts _ q99) (hts _ q185) (hts _ q186) rfl jhdiJ0_init ⟨Nat.le_of_ble_eq_true rfl, Nat.le_of_ble_eq_true rfl⟩) rfl rfl hl.1 rfl (lv_room (Nat.le_of_ble_eq_true rfl)) dJ1_init_1 hH hS (by omega) (by omega) (fun H locs hH hS => ?_)
  have hkc : kc + c1 + c2_1 ≤ mc := by omega
  have hks : ks + n1 + n2_1 ≤ ms := by omega
  refine lv_aload_n (pc := 4) hx hb dJ1_init_4 rfl (lv_at hl 0 rfl) ?_
  refine lv_iconst (pc := 5) (v := nI 0) hx hb dJ1_init_5 rfl ?_
  obtain ⟨S2, e2, hf⟩ := bdo hf
  refine g_put (pc := 6) (o := (some l0)) (a := l0) (ci := 16) (k := 0) (v := .int (nI 0)) (C := RJ4) (T := TJ4) (N := 4) (ty := .int) hx hb hts hown hE hk hH hS rfl in_J4 tyJ4_ok nmJ4 rfl (by decide) (hts _ q195) (fun _ h9 => h9) rfl rfl rfl rfl rfl e2 dJ1_init_6 (fun H locs hH hS => ?_)
  exact g_vret (pc := 9) hx hb hr hlk hH hS hkc hks hf dJ1_init_9
theorem mJ1_init_c16 {l : Launch} {G : gG} {Rp : gM → gM → Nat → Prop} (hk : rOK Rp) {S S2 : gS} {r2 : Unit} {C N : Nat} {l0 : Nat} (hf : fJ1_init_c16 G l0 S = some (r2, S2, C, N)) : gMet l yJ1_init cJ1_init 1 (none) 2 80 G Rp [.ref l0] S none S2 C N := by
  refine g_start (by decide) (Nat.le_of_ble_eq_true rfl) (fun p e s m args below meth c ls hc hl hH => ?_)
  have hl : lv_has ls 1 [(0, .ref l0)] := hl
  exact wJ1_init_c16_b0 hk hc l0 S _ _ ls 0 0 C N (by omega) (by omega) hH va_S.rf (lv_sub hl [0] rfl) hf
end
section
variable {r : Unit} {Sf : gS}
def fJ3_init_c16 (G : gG) (l0 : Nat) (S : gS) : gO Unit :=
  gb (fJ1_init_c16 G l0 S) fun _ S1 =>
  some ((), S1, 0, 0)
theorem wJ3_init_c16_b0 (hk : rOK Rp) (hc : gC p s m args meth c G RJ3 "<init>" cJ3_init 1 (none)) (l0 : Nat) (S : gS) (H : Heap) (locs : List Loc) (ls : Array Slot) (kc ks C N : Nat) (hkc : kc + C ≤ mc) (hks : ks + N ≤ ms) (hH : hp G Rp S H) (hS : va_S G.2.2.2 s.heap H locs) (hl : lv_has ls 1 [(0, .ref l0)]) (hf : fJ3_init_c16 G l0 S = some (r, Sf, C, N)) : W p l e (gR 3 100 mc ms) s m args below meth c H locs kc ks (gQ below G Rp none Sf args s mc ms) (F0 m 0 ls []) := by
  obtain ⟨hx, hb, hr, hlk, hml, hown, hts, hE, hA, hnm⟩ := hc
  have hc : gC p s m args meth c G RJ3 "<init>" cJ3_init 1 (none) := ⟨hx, hb, hr, hlk, hml, hown, hts, hE, hA, hnm⟩
  unfold fJ3_init_c16 at hf
  refine lv_aload_n (pc := 0) hx hb dJ3_init_0 rfl (lv_at hl 0 rfl) ?_
  obtain ⟨_, S1, c1, n1, c2_1, n2_1, e1, hf, hC1, hN1⟩ := gbo hf
  refine g_callI (pc := 1) (o := (some l0)) (b := l0) (As := []) (rest := []) hc (mJ1_init_c16 hk (l0 := l0) e1) (cwI 0 hts (lw_meth q184) rfl rfl rfl (hts _ q100) (hts _ q218) (hts _ q183) rfl jhdiJ1_init ⟨Nat.le_of_ble_eq_true rfl, Nat.le_of_ble_eq_true rfl⟩) rfl rfl hl.1 rfl (lv_room (Nat.le_of_ble_eq_true rfl)) dJ3_init_1 hH hS (by omega) (by omega) (fun H locs hH hS => ?_)
  have hkc : kc + c1 + c2_1 ≤ mc := by omega
  have hks : ks + n1 + n2_1 ≤ ms := by omega
  exact g_vret (pc := 4) hx hb hr hlk hH hS hkc hks hf dJ3_init_4
theorem mJ3_init_c16 {l : Launch} {G : gG} {Rp : gM → gM → Nat → Prop} (hk : rOK Rp) {S S2 : gS} {r2 : Unit} {C N : Nat} {l0 : Nat} (hf : fJ3_init_c16 G l0 S = some (r2, S2, C, N)) : gMet l yJ3_init cJ3_init 1 (none) 3 100 G Rp [.ref l0] S none S2 C N := by
  refine g_start (by decide) (Nat.le_of_ble_eq_true rfl) (fun p e s m args below meth c ls hc hl hH => ?_)
  have hl : lv_has ls 1 [(0, .ref l0)] := hl
  exact wJ3_init_c16_b0 hk hc l0 S _ _ ls 0 0 C N (by omega) (by omega) hH va_S.rf (lv_sub hl [0] rfl) hf
end
section
variable {r : Unit} {Sf : gS}
def fJ4_init (G : gG) (l0 : Nat) (S : gS) : gO Unit :=
  gb (fJ3_init_c16 G l0 S) fun _ S1 =>
  bd (wr S1 l0 16 1 (.int (nI 0))) fun S2 =>
  some ((), S2, 0, 0)
theorem wJ4_init_b0 (hk : rOK Rp) (hc : gC p s m args meth c G RJ4 "<init>" cJ4_init 1 (none)) (l0 : Nat) (S : gS) (H : Heap) (locs : List Loc) (ls : Array Slot) (kc ks C N : Nat) (hkc : kc + C ≤ mc) (hks : ks + N ≤ ms) (hH : hp G Rp S H) (hS : va_S G.2.2.2 s.heap H locs) (hl : lv_has ls 1 [(0, .ref l0)]) (hf : fJ4_init G l0 S = some (r, Sf, C, N)) : W p l e (gR 4 120 mc ms) s m args below meth c H locs kc ks (gQ below G Rp none Sf args s mc ms) (F0 m 0 ls []) := by
  obtain ⟨hx, hb, hr, hlk, hml, hown, hts, hE, hA, hnm⟩ := hc
  have hc : gC p s m args meth c G RJ4 "<init>" cJ4_init 1 (none) := ⟨hx, hb, hr, hlk, hml, hown, hts, hE, hA, hnm⟩
  unfold fJ4_init at hf
  refine lv_aload_n (pc := 0) hx hb dJ4_init_0 rfl (lv_at hl 0 rfl) ?_
  obtain ⟨_, S1, c1, n1, c2_1, n2_1, e1, hf, hC1, hN1⟩ := gbo hf
  refine g_callI (pc := 1) (o := (some l0)) (b := l0) (As := []) (rest := []) hc (mJ3_init_c16 hk (l0 := l0) e1) (cwI 0 hts (lw_meth q217) rfl rfl rfl (hts _ q102) (hts _ q215) (hts _ q216) rfl jhdiJ3_init ⟨Nat.le_of_ble_eq_true rfl, Nat.le_of_ble_eq_true rfl⟩) rfl rfl hl.1 rfl (lv_room (Nat.le_of_ble_eq_true rfl)) dJ4_init_1 hH hS (by omega) (by omega) (fun H locs hH hS => ?_)
  have hkc : kc + c1 + c2_1 ≤ mc := by omega
  have hks : ks + n1 + n2_1 ≤ ms := by omega
  refine lv_aload_n (pc := 4) hx hb dJ4_init_4 rfl (lv_at hl 0 rfl) ?_
  refine lv_iconst (pc := 5) (v := nI 0) hx hb dJ4_init_5 rfl ?_
  obtain ⟨S2, e2, hf⟩ := bdo hf
  refine g_put (pc := 6) (o := (some l0)) (a := l0) (ci := 16) (k := 1) (v := .int (nI 0)) (C := RJ4) (T := TJ4) (N := 4) (ty := .int) hx hb hts hown hE hk hH hS rfl in_J4 tyJ4_ok nmJ4 rfl (by decide) (hts _ q219) (fun _ h9 => h9) rfl rfl rfl rfl rfl e2 dJ4_init_6 (fun H locs hH hS => ?_)
  exact g_vret (pc := 9) hx hb hr hlk hH hS hkc hks hf dJ4_init_9
theorem mJ4_init {l : Launch} {G : gG} {Rp : gM → gM → Nat → Prop} (hk : rOK Rp) {S S2 : gS} {r2 : Unit} {C N : Nat} {l0 : Nat} (hf : fJ4_init G l0 S = some (r2, S2, C, N)) : gMet l yJ4_init cJ4_init 1 (none) 4 120 G Rp [.ref l0] S none S2 C N := by
  refine g_start (by decide) (Nat.le_of_ble_eq_true rfl) (fun p e s m args below meth c ls hc hl hH => ?_)
  have hl : lv_has ls 1 [(0, .ref l0)] := hl
  exact wJ4_init_b0 hk hc l0 S _ _ ls 0 0 C N (by omega) (by omega) hH va_S.rf (lv_sub hl [0] rfl) hf
end
section
variable {r : Int32} {Sf : gS}
def fJ4_size (G : gG) (l0 : Nat) (S : gS) : gO Int32 :=
  bd (rdI S l0 16 1) fun v1 =>
  some (v1, S, 0, 0)
theorem wJ4_size_b0 (hk : rOK Rp) (hc : gC p s m args meth c G RJ4 "size" cJ4_size 1 (some .int)) (l0 : Nat) (S : gS) (H : Heap) (locs : List Loc) (ls : Array Slot) (kc ks C N : Nat) (hkc : kc + C ≤ mc) (hks : ks + N ≤ ms) (hH : hp G Rp S H) (hS : va_S G.2.2.2 s.heap H locs) (hl : lv_has ls 1 [(0, .ref l0)]) (hf : fJ4_size G l0 S = some (r, Sf, C, N)) : W p l e (gR 1 60 mc ms) s m args below meth c H locs kc ks (gQ below G Rp (some (.int r)) Sf args s mc ms) (F0 m 0 ls []) := by
  obtain ⟨hx, hb, hr, hlk, hml, hown, hts, hE, hA, hnm⟩ := hc
  have hc : gC p s m args meth c G RJ4 "size" cJ4_size 1 (some .int) := ⟨hx, hb, hr, hlk, hml, hown, hts, hE, hA, hnm⟩
  unfold fJ4_size at hf
  refine lv_aload_n (pc := 0) hx hb dJ4_size_0 rfl (lv_at hl 0 rfl) ?_
  obtain ⟨v1, e1, hf⟩ := bdo hf
  refine g_get (pc := 1) (o := (some l0)) (a := l0) (ci := 16) (k := 1) (v := .int v1) (C := RJ4) (T := TJ4) (N := 4) hx hb hts hown hE hk hH in_J4 rfl (by decide) (hts _ q219) (fun _ h9 => h9) rfl (rdI_o e1) dJ4_size_1 ?_
  exact g_iret (pc := 4) hx hb hr hlk hH hS hkc hks hf dJ4_size_4
theorem mJ4_size {l : Launch} {G : gG} {Rp : gM → gM → Nat → Prop} (hk : rOK Rp) {S S2 : gS} {r2 : Int32} {C N : Nat} {l0 : Nat} (hf : fJ4_size G l0 S = some (r2, S2, C, N)) : gMet l yJ4_size cJ4_size 1 (some .int) 1 60 G Rp [.ref l0] S (some (.int r2)) S2 C N := by
  refine g_start (by decide) (Nat.le_of_ble_eq_true rfl) (fun p e s m args below meth c ls hc hl hH => ?_)
  have hl : lv_has ls 1 [(0, .ref l0)] := hl
  exact wJ4_size_b0 hk hc l0 S _ _ ls 0 0 C N (by omega) (by omega) hH va_S.rf (lv_sub hl [0] rfl) hf
end
section
variable {r : Int32} {Sf : gS}
def fJ4_isElementIndex (G : gG) (l0 : Nat) (l1 : Int32) (S : gS) : gO Int32 :=
  if l1 < 0 then
    zg (nI 0) S
  else
    bd (rdI S l0 16 1) fun v2 =>
    if v2 ≤ l1 then
      zg (nI 0) S
    else
      zg (nI 1) S
theorem wJ4_isElementIndex_b0 (hk : rOK Rp) (hc : gC p s m args meth c G RJ4 "isElementIndex" cJ4_isElementIndex 2 (some .boolean)) (l0 : Nat) (l1 : Int32) (S : gS) (H : Heap) (locs : List Loc) (ls : Array Slot) (kc ks C N : Nat) (hkc : kc + C ≤ mc) (hks : ks + N ≤ ms) (hH : hp G Rp S H) (hS : va_S G.2.2.2 s.heap H locs) (hl : lv_has ls 2 [(0, .ref l0), (1, .int l1)]) (hf : fJ4_isElementIndex G l0 l1 S = some (r, Sf, C, N)) : W p l e (gR 1 60 mc ms) s m args below meth c H locs kc ks (gQ below G Rp (some (.int r)) Sf args s mc ms) (F0 m 0 ls []) := by
  obtain ⟨hx, hb, hr, hlk, hml, hown, hts, hE, hA, hnm⟩ := hc
  have hc : gC p s m args meth c G RJ4 "isElementIndex" cJ4_isElementIndex 2 (some .boolean) := ⟨hx, hb, hr, hlk, hml, hown, hts, hE, hA, hnm⟩
  unfold fJ4_isElementIndex at hf
  refine lv_iload_n (pc := 0) hx hb dJ4_isElementIndex_0 rfl (lv_at hl 1 rfl) ?_
  refine lv_if_lt (pc := 1) (tgt := 16) hx hb dJ4_isElementIndex_1 (by decide) (fun c1 => ?_) (fun c1 => ?_)
  · rw [if_pos c1] at hf
    refine lv_iconst (pc := 16) (v := nI 0) hx hb dJ4_isElementIndex_16 rfl ?_
    exact g_zret (pc := 17) hx hb hr hlk hH hS hkc hks hf dJ4_isElementIndex_17
  · rw [if_neg c1] at hf
    refine lv_iload_n (pc := 4) hx hb dJ4_isElementIndex_4 rfl (lv_at hl 1 rfl) ?_
    refine lv_aload_n (pc := 5) hx hb dJ4_isElementIndex_5 rfl (lv_at hl 0 rfl) ?_
    obtain ⟨v2, e2, hf⟩ := bdo hf
    refine g_get (pc := 6) (o := (some l0)) (a := l0) (ci := 16) (k := 1) (v := .int v2) (C := RJ4) (T := TJ4) (N := 4) hx hb hts hown hE hk hH in_J4 rfl (by decide) (hts _ q219) (fun _ h9 => h9) rfl (rdI_o e2) dJ4_isElementIndex_6 ?_
    refine lv_icmp_ge (pc := 9) (tgt := 16) hx hb dJ4_isElementIndex_9 (by decide) (fun c3 => ?_) (fun c3 => ?_)
    · rw [if_pos c3] at hf
      refine lv_iconst (pc := 16) (v := nI 0) hx hb dJ4_isElementIndex_16 rfl ?_
      exact g_zret (pc := 17) hx hb hr hlk hH hS hkc hks hf dJ4_isElementIndex_17
    · rw [if_neg c3] at hf
      refine lv_iconst (pc := 12) (v := nI 1) hx hb dJ4_isElementIndex_12 rfl ?_
      refine lv_goto (pc := 13) (tgt := 17) hx hb dJ4_isElementIndex_13 (by decide) ?_
      exact g_zret (pc := 17) hx hb hr hlk hH hS hkc hks hf dJ4_isElementIndex_17
theorem mJ4_isElementIndex {l : Launch} {G : gG} {Rp : gM → gM → Nat → Prop} (hk : rOK Rp) {S S2 : gS} {r2 : Int32} {C N : Nat} {l0 : Nat} {l1 : Int32} (hf : fJ4_isElementIndex G l0 l1 S = some (r2, S2, C, N)) : gMet l yJ4_isElementIndex cJ4_isElementIndex 2 (some .boolean) 1 60 G Rp [.ref l0, .int l1] S (some (.int r2)) S2 C N := by
  refine g_start (by decide) (Nat.le_of_ble_eq_true rfl) (fun p e s m args below meth c ls hc hl hH => ?_)
  have hl : lv_has ls 2 [(0, .ref l0), (1, .int l1)] := hl
  exact wJ4_isElementIndex_b0 hk hc l0 l1 S _ _ ls 0 0 C N (by omega) (by omega) hH va_S.rf (lv_sub hl [0, 1] rfl) hf
end
section
variable {r : Unit} {Sf : gS}
def fJ4_checkElementIndex (G : gG) (l0 : Nat) (l1 : Int32) (S : gS) : gO Unit :=
  bd (chk S l0 16) fun _ =>
  gb (fJ4_isElementIndex G l0 l1 S) fun v1 S1 =>
  if v1 = 0 then
    none
  else
    some ((), S1, 0, 0)
theorem wJ4_checkElementIndex_b0 (hk : rOK Rp) (hc : gC p s m args meth c G RJ4 "checkElementIndex" cJ4_checkElementIndex 2 (none)) (l0 : Nat) (l1 : Int32) (S : gS) (H : Heap) (locs : List Loc) (ls : Array Slot) (kc ks C N : Nat) (hkc : kc + C ≤ mc) (hks : ks + N ≤ ms) (hH : hp G Rp S H) (hS : va_S G.2.2.2 s.heap H locs) (hl : lv_has ls 2 [(0, .ref l0), (1, .int l1)]) (hf : fJ4_checkElementIndex G l0 l1 S = some (r, Sf, C, N)) : W p l e (gR 2 81 mc ms) s m args below meth c H locs kc ks (gQ below G Rp none Sf args s mc ms) (F0 m 0 ls []) := by
  obtain ⟨hx, hb, hr, hlk, hml, hown, hts, hE, hA, hnm⟩ := hc
  have hc : gC p s m args meth c G RJ4 "checkElementIndex" cJ4_checkElementIndex 2 (none) := ⟨hx, hb, hr, hlk, hml, hown, hts, hE, hA, hnm⟩
  unfold fJ4_checkElementIndex at hf
  refine lv_aload_n (pc := 0) hx hb dJ4_checkElementIndex_0 rfl (lv_at hl 0 rfl) ?_
  refine lv_iload_n (pc := 1) hx hb dJ4_checkElementIndex_1 rfl (lv_at hl 1 rfl) ?_
  obtain ⟨_, ek1, hf⟩ := bdo hf
  obtain ⟨v1, S1, c1, n1, c2_1, n2_1, e1, hf, hC1, hN1⟩ := gbo hf
  refine g_callV (pc := 2) (o := (some l0)) (b := l0) (As := [.int l1]) (rest := []) (st1 := [.int v1]) hc (mJ4_isElementIndex hk (l0 := l0) (l1 := l1) e1) (cwV 1 hts (lw_V q588 q590 qs7 q103 q591) rfl rfl rfl jhdJ4_isElementIndex ⟨Nat.le_of_ble_eq_true rfl, Nat.le_of_ble_eq_true rfl⟩) (g_recv hE hk hH (ci := 16) (q := (RJ4, TJ4, 4)) rfl (chk_o ek1).choose_spec) rfl rfl hl.1 rfl rfl (lv_room (Nat.le_of_ble_eq_true rfl)) dJ4_checkElementIndex_2 hH hS (by omega) (by omega) (fun H locs hH hS => ?_)
  have hkc : kc + c1 + c2_1 ≤ mc := by omega
  have hks : ks + n1 + n2_1 ≤ ms := by omega
  refine lv_if_ne (pc := 5) (tgt := 21) hx hb dJ4_checkElementIndex_5 (by decide) (fun c2 => ?_) (fun c2 => ?_)
  · rw [if_neg c2] at hf
    exact g_vret (pc := 21) hx hb hr hlk hH hS hkc hks hf dJ4_checkElementIndex_21
  · rw [if_pos c2] at hf
    exact absurd hf (fun h => by cases h)
theorem mJ4_checkElementIndex {l : Launch} {G : gG} {Rp : gM → gM → Nat → Prop} (hk : rOK Rp) {S S2 : gS} {r2 : Unit} {C N : Nat} {l0 : Nat} {l1 : Int32} (hf : fJ4_checkElementIndex G l0 l1 S = some (r2, S2, C, N)) : gMet l yJ4_checkElementIndex cJ4_checkElementIndex 2 (none) 2 81 G Rp [.ref l0, .int l1] S none S2 C N := by
  refine g_start (by decide) (Nat.le_of_ble_eq_true rfl) (fun p e s m args below meth c ls hc hl hH => ?_)
  have hl : lv_has ls 2 [(0, .ref l0), (1, .int l1)] := hl
  exact wJ4_checkElementIndex_b0 hk hc l0 l1 S _ _ ls 0 0 C N (by omega) (by omega) hH va_S.rf (lv_sub hl [0, 1] rfl) hf
end
section
variable {r : Option Nat} {Sf : gS}
def fJ4_node_b47 (G : gG) : Nat → Int32 → (Option Nat) → Int32 → gS → gO (Option Nat)
  | 0, _, _, _, _ => none
  | n + 1, l1, l2, l3, S =>
    if l3 ≤ l1 then
      some (l2, S, 0, 0)
    else
      bd l2 fun a2 =>
      bd (rdR S a2 20 2) fun v3 =>
      fJ4_node_b47 G n l1 v3 (l3 + (-1)) S
theorem wJ4_node_b47 (hk : rOK Rp) (hc : gC p s m args meth c G RJ4 "node" cJ4_node 4 (some (.object "java/util/LinkedList$Node"))) : ∀ (n : Nat) (l1 : Int32) (l2 : Option Nat) (l3 : Int32) (S : gS) (H : Heap) (locs : List Loc) (ls : Array Slot) (kc ks C N : Nat), kc + C ≤ mc → ks + N ≤ ms → hp G Rp S H → va_S G.2.2.2 s.heap H locs → lv_has ls 4 [(1, .int l1), (2, va_rf l2), (3, .int l3)] → fJ4_node_b47 G n l1 l2 l3 S = some (r, Sf, C, N) → W p l e (gR 1 60 mc ms) s m args below meth c H locs kc ks (gQ below G Rp (some (va_rf r)) Sf args s mc ms) (F0 m 47 ls []) := by
  obtain ⟨hx, hb, hr, hlk, hml, hown, hts, hE, hA, hnm⟩ := hc
  have hc : gC p s m args meth c G RJ4 "node" cJ4_node 4 (some (.object "java/util/LinkedList$Node")) := ⟨hx, hb, hr, hlk, hml, hown, hts, hE, hA, hnm⟩
  intro n
  induction n with
  | zero => intro l1 l2 l3 S H locs ls kc ks C N _ _ _ _ _ hf; exact absurd hf (fun h => by cases h)
  | succ n ih =>
    intro l1 l2 l3 S H locs ls kc ks C N hkc hks hH hS hl hf
    rw [fJ4_node_b47] at hf
    refine lv_iload_n (pc := 47) hx hb dJ4_node_47 rfl (lv_at hl 2 rfl) ?_
    refine lv_iload_n (pc := 48) hx hb dJ4_node_48 rfl (lv_at hl 0 rfl) ?_
    refine lv_icmp_le (pc := 49) (tgt := 63) hx hb dJ4_node_49 (by decide) (fun c1 => ?_) (fun c1 => ?_)
    · rw [if_pos c1] at hf
      refine g_aload_n (pc := 63) (o := l2) hx hb dJ4_node_63 rfl (lv_at hl 1 rfl) ?_
      exact g_aret (pc := 64) (v := l2) hx hb hr (Or.inl ⟨_, rfl⟩) hlk hH hS hkc hks hf dJ4_node_64
    · rw [if_neg c1] at hf
      refine g_aload_n (pc := 52) (o := l2) hx hb dJ4_node_52 rfl (lv_at hl 1 rfl) ?_
      obtain ⟨a2, ea2, hf⟩ := bdo hf
      obtain ⟨v3, e3, hf⟩ := bdo hf
      refine g_get (pc := 53) (o := l2) (a := a2) (ci := 20) (k := 2) (v := va_rf v3) (C := RJ29) (T := TJ29) (N := 3) hx hb hts hown hE hk hH in_J29 rfl (by decide) (hts _ q1685) (fun _ h9 => h9) ea2 (rdR_o e3) dJ4_node_53 ?_
      refine g_astore_n (pc := 56) (i := 2) (o := v3) (lv' := [(2, va_rf v3), (1, .int l1), (3, .int l3)]) hx hb dJ4_node_56 rfl hl (by decide) rfl (fun ls hl => ?_)
      refine lv_iinc (pc := 57) (v := l3 + (-1)) (lv' := [(3, .int (l3 + (-1))), (2, va_rf v3), (1, .int l1)]) hx hb dJ4_node_57 hl (k := 2) rfl rfl (by decide) (by simp [va_rf_cat, cat_i, cat_j, cat_r] <;> rfl) (fun ls hl => ?_)
      refine lv_goto (pc := 60) (tgt := 47) hx hb dJ4_node_60 (by decide) ?_
      exact ih l1 v3 (l3 + (-1)) S _ _ ls _ _ _ _ hkc hks hH hS (lv_sub hl [2, 1, 0] rfl) hf
def fJ4_node_b17 (G : gG) : Nat → Int32 → (Option Nat) → Int32 → gS → gO (Option Nat)
  | 0, _, _, _, _ => none
  | n + 1, l1, l2, l3, S =>
    if l1 ≤ l3 then
      some (l2, S, 0, 0)
    else
      bd l2 fun a2 =>
      bd (rdR S a2 20 1) fun v3 =>
      fJ4_node_b17 G n l1 v3 (l3 + (nI 1)) S
theorem wJ4_node_b17 (hk : rOK Rp) (hc : gC p s m args meth c G RJ4 "node" cJ4_node 4 (some (.object "java/util/LinkedList$Node"))) : ∀ (n : Nat) (l1 : Int32) (l2 : Option Nat) (l3 : Int32) (S : gS) (H : Heap) (locs : List Loc) (ls : Array Slot) (kc ks C N : Nat), kc + C ≤ mc → ks + N ≤ ms → hp G Rp S H → va_S G.2.2.2 s.heap H locs → lv_has ls 4 [(1, .int l1), (2, va_rf l2), (3, .int l3)] → fJ4_node_b17 G n l1 l2 l3 S = some (r, Sf, C, N) → W p l e (gR 1 60 mc ms) s m args below meth c H locs kc ks (gQ below G Rp (some (va_rf r)) Sf args s mc ms) (F0 m 17 ls []) := by
  obtain ⟨hx, hb, hr, hlk, hml, hown, hts, hE, hA, hnm⟩ := hc
  have hc : gC p s m args meth c G RJ4 "node" cJ4_node 4 (some (.object "java/util/LinkedList$Node")) := ⟨hx, hb, hr, hlk, hml, hown, hts, hE, hA, hnm⟩
  intro n
  induction n with
  | zero => intro l1 l2 l3 S H locs ls kc ks C N _ _ _ _ _ hf; exact absurd hf (fun h => by cases h)
  | succ n ih =>
    intro l1 l2 l3 S H locs ls kc ks C N hkc hks hH hS hl hf
    rw [fJ4_node_b17] at hf
    refine lv_iload_n (pc := 17) hx hb dJ4_node_17 rfl (lv_at hl 2 rfl) ?_
    refine lv_iload_n (pc := 18) hx hb dJ4_node_18 rfl (lv_at hl 0 rfl) ?_
    refine lv_icmp_ge (pc := 19) (tgt := 33) hx hb dJ4_node_19 (by decide) (fun c1 => ?_) (fun c1 => ?_)
    · rw [if_pos c1] at hf
      refine g_aload_n (pc := 33) (o := l2) hx hb dJ4_node_33 rfl (lv_at hl 1 rfl) ?_
      exact g_aret (pc := 34) (v := l2) hx hb hr (Or.inl ⟨_, rfl⟩) hlk hH hS hkc hks hf dJ4_node_34
    · rw [if_neg c1] at hf
      refine g_aload_n (pc := 22) (o := l2) hx hb dJ4_node_22 rfl (lv_at hl 1 rfl) ?_
      obtain ⟨a2, ea2, hf⟩ := bdo hf
      obtain ⟨v3, e3, hf⟩ := bdo hf
      refine g_get (pc := 23) (o := l2) (a := a2) (ci := 20) (k := 1) (v := va_rf v3) (C := RJ29) (T := TJ29) (N := 3) hx hb hts hown hE hk hH in_J29 rfl (by decide) (hts _ q1683) (fun _ h9 => h9) ea2 (rdR_o e3) dJ4_node_23 ?_
      refine g_astore_n (pc := 26) (i := 2) (o := v3) (lv' := [(2, va_rf v3), (1, .int l1), (3, .int l3)]) hx hb dJ4_node_26 rfl hl (by decide) rfl (fun ls hl => ?_)
      refine lv_iinc (pc := 27) (v := l3 + (nI 1)) (lv' := [(3, .int (l3 + (nI 1))), (2, va_rf v3), (1, .int l1)]) hx hb dJ4_node_27 hl (k := 2) rfl rfl (by decide) (by simp [va_rf_cat, cat_i, cat_j, cat_r] <;> rfl) (fun ls hl => ?_)
      refine lv_goto (pc := 30) (tgt := 17) hx hb dJ4_node_30 (by decide) ?_
      exact ih l1 v3 (l3 + (nI 1)) S _ _ ls _ _ _ _ hkc hks hH hS (lv_sub hl [2, 1, 0] rfl) hf
def fJ4_node (G : gG) (l0 : Nat) (l1 : Int32) (S : gS) : gO (Option Nat) :=
  bd (rdI S l0 16 1) fun v1 =>
  if (v1 >>> ((nI 1) &&& 31)) ≤ l1 then
    bd (rdR S l0 16 3) fun v3 =>
    bd (rdI S l0 16 1) fun v4 =>
    fJ4_node_b47 G FU l1 v3 (v4 - (nI 1)) S
  else
    bd (rdR S l0 16 2) fun v5 =>
    fJ4_node_b17 G FU l1 v5 (nI 0) S
theorem wJ4_node_b0 (hk : rOK Rp) (hc : gC p s m args meth c G RJ4 "node" cJ4_node 4 (some (.object "java/util/LinkedList$Node"))) (l0 : Nat) (l1 : Int32) (S : gS) (H : Heap) (locs : List Loc) (ls : Array Slot) (kc ks C N : Nat) (hkc : kc + C ≤ mc) (hks : ks + N ≤ ms) (hH : hp G Rp S H) (hS : va_S G.2.2.2 s.heap H locs) (hl : lv_has ls 4 [(0, .ref l0), (1, .int l1)]) (hf : fJ4_node G l0 l1 S = some (r, Sf, C, N)) : W p l e (gR 1 60 mc ms) s m args below meth c H locs kc ks (gQ below G Rp (some (va_rf r)) Sf args s mc ms) (F0 m 0 ls []) := by
  obtain ⟨hx, hb, hr, hlk, hml, hown, hts, hE, hA, hnm⟩ := hc
  have hc : gC p s m args meth c G RJ4 "node" cJ4_node 4 (some (.object "java/util/LinkedList$Node")) := ⟨hx, hb, hr, hlk, hml, hown, hts, hE, hA, hnm⟩
  unfold fJ4_node at hf
  refine lv_iload_n (pc := 0) hx hb dJ4_node_0 rfl (lv_at hl 1 rfl) ?_
  refine lv_aload_n (pc := 1) hx hb dJ4_node_1 rfl (lv_at hl 0 rfl) ?_
  obtain ⟨v1, e1, hf⟩ := bdo hf
  refine g_get (pc := 2) (o := (some l0)) (a := l0) (ci := 16) (k := 1) (v := .int v1) (C := RJ4) (T := TJ4) (N := 4) hx hb hts hown hE hk hH in_J4 rfl (by decide) (hts _ q219) (fun _ h9 => h9) rfl (rdI_o e1) dJ4_node_2 ?_
  refine lv_iconst (pc := 5) (v := nI 1) hx hb dJ4_node_5 rfl ?_
  refine lv_ishr (pc := 6) hx hb dJ4_node_6 ?_
  refine lv_icmp_ge (pc := 7) (tgt := 35) hx hb dJ4_node_7 (by decide) (fun c2 => ?_) (fun c2 => ?_)
  · rw [if_pos c2] at hf
    refine lv_aload_n (pc := 35) hx hb dJ4_node_35 rfl (lv_at hl 0 rfl) ?_
    obtain ⟨v3, e3, hf⟩ := bdo hf
    refine g_get (pc := 36) (o := (some l0)) (a := l0) (ci := 16) (k := 3) (v := va_rf v3) (C := RJ4) (T := TJ4) (N := 4) hx hb hts hown hE hk hH in_J4 rfl (by decide) (hts _ q222) (fun _ h9 => h9) rfl (rdR_o e3) dJ4_node_36 ?_
    refine g_astore_n (pc := 39) (i := 2) (o := v3) (lv' := [(2, va_rf v3), (0, .ref l0), (1, .int l1)]) hx hb dJ4_node_39 rfl hl (by decide) rfl (fun ls hl => ?_)
    refine lv_aload_n (pc := 40) hx hb dJ4_node_40 rfl (lv_at hl 1 rfl) ?_
    obtain ⟨v4, e4, hf⟩ := bdo hf
    refine g_get (pc := 41) (o := (some l0)) (a := l0) (ci := 16) (k := 1) (v := .int v4) (C := RJ4) (T := TJ4) (N := 4) hx hb hts hown hE hk hH in_J4 rfl (by decide) (hts _ q219) (fun _ h9 => h9) rfl (rdI_o e4) dJ4_node_41 ?_
    refine lv_iconst (pc := 44) (v := nI 1) hx hb dJ4_node_44 rfl ?_
    refine lv_isub (pc := 45) hx hb dJ4_node_45 ?_
    refine lv_istore_n (pc := 46) (i := 3) (lv' := [(3, .int (v4 - (nI 1))), (2, va_rf v3), (0, .ref l0), (1, .int l1)]) hx hb dJ4_node_46 rfl hl (by decide) (by simp [va_rf_cat, cat_i, cat_j, cat_r] <;> rfl) (fun ls hl => ?_)
    exact wJ4_node_b47 hk hc FU l1 v3 (v4 - (nI 1)) S _ _ ls _ _ _ _ hkc hks hH hS (lv_sub hl [3, 1, 0] rfl) hf
  · rw [if_neg c2] at hf
    refine lv_aload_n (pc := 10) hx hb dJ4_node_10 rfl (lv_at hl 0 rfl) ?_
    obtain ⟨v5, e5, hf⟩ := bdo hf
    refine g_get (pc := 11) (o := (some l0)) (a := l0) (ci := 16) (k := 2) (v := va_rf v5) (C := RJ4) (T := TJ4) (N := 4) hx hb hts hown hE hk hH in_J4 rfl (by decide) (hts _ q221) (fun _ h9 => h9) rfl (rdR_o e5) dJ4_node_11 ?_
    refine g_astore_n (pc := 14) (i := 2) (o := v5) (lv' := [(2, va_rf v5), (0, .ref l0), (1, .int l1)]) hx hb dJ4_node_14 rfl hl (by decide) rfl (fun ls hl => ?_)
    refine lv_iconst (pc := 15) (v := nI 0) hx hb dJ4_node_15 rfl ?_
    refine lv_istore_n (pc := 16) (i := 3) (lv' := [(3, .int (nI 0)), (2, va_rf v5), (0, .ref l0), (1, .int l1)]) hx hb dJ4_node_16 rfl hl (by decide) (by simp [va_rf_cat, cat_i, cat_j, cat_r] <;> rfl) (fun ls hl => ?_)
    exact wJ4_node_b17 hk hc FU l1 v5 (nI 0) S _ _ ls _ _ _ _ hkc hks hH hS (lv_sub hl [3, 1, 0] rfl) hf
theorem mJ4_node {l : Launch} {G : gG} {Rp : gM → gM → Nat → Prop} (hk : rOK Rp) {S S2 : gS} {r2 : Option Nat} {C N : Nat} {l0 : Nat} {l1 : Int32} (hf : fJ4_node G l0 l1 S = some (r2, S2, C, N)) : gMet l yJ4_node cJ4_node 4 (some (.object "java/util/LinkedList$Node")) 1 60 G Rp [.ref l0, .int l1] S (some (va_rf r2)) S2 C N := by
  refine g_start (by decide) (Nat.le_of_ble_eq_true rfl) (fun p e s m args below meth c ls hc hl hH => ?_)
  have hl : lv_has ls 4 [(0, .ref l0), (1, .int l1)] := hl
  exact wJ4_node_b0 hk hc l0 l1 S _ _ ls 0 0 C N (by omega) (by omega) hH va_S.rf (lv_sub hl [0, 1] rfl) hf
end
section
variable {r : Option Nat} {Sf : gS}
def fJ4_get (G : gG) (l0 : Nat) (l1 : Int32) (S : gS) : gO (Option Nat) :=
  bd (chk S l0 16) fun _ =>
  gb (fJ4_checkElementIndex G l0 l1 S) fun _ S1 =>
  bd (chk S1 l0 16) fun _ =>
  gb (fJ4_node G l0 l1 S1) fun v2 S2 =>
  bd v2 fun a3 =>
  bd (rdR S2 a3 20 0) fun v4 =>
  some (v4, S2, 0, 0)
theorem wJ4_get_b0 (hk : rOK Rp) (hc : gC p s m args meth c G RJ4 "get" cJ4_get 2 (some (.object "java/lang/Object"))) (l0 : Nat) (l1 : Int32) (S : gS) (H : Heap) (locs : List Loc) (ls : Array Slot) (kc ks C N : Nat) (hkc : kc + C ≤ mc) (hks : ks + N ≤ ms) (hH : hp G Rp S H) (hS : va_S G.2.2.2 s.heap H locs) (hl : lv_has ls 2 [(0, .ref l0), (1, .int l1)]) (hf : fJ4_get G l0 l1 S = some (r, Sf, C, N)) : W p l e (gR 3 102 mc ms) s m args below meth c H locs kc ks (gQ below G Rp (some (va_rf r)) Sf args s mc ms) (F0 m 0 ls []) := by
  obtain ⟨hx, hb, hr, hlk, hml, hown, hts, hE, hA, hnm⟩ := hc
  have hc : gC p s m args meth c G RJ4 "get" cJ4_get 2 (some (.object "java/lang/Object")) := ⟨hx, hb, hr, hlk, hml, hown, hts, hE, hA, hnm⟩
  unfold fJ4_get at hf
  refine lv_aload_n (pc := 0) hx hb dJ4_get_0 rfl (lv_at hl 0 rfl) ?_
  refine lv_iload_n (pc := 1) hx hb dJ4_get_1 rfl (lv_at hl 1 rfl) ?_
  obtain ⟨_, ek1, hf⟩ := bdo hf
  obtain ⟨_, S1, c1, n1, c2_1, n2_1, e1, hf, hC1, hN1⟩ := gbo hf
  refine g_callV (pc := 2) (o := (some l0)) (b := l0) (As := [.int l1]) (rest := []) (st1 := []) hc (mJ4_checkElementIndex hk (l0 := l0) (l1 := l1) e1) (cwV 1 hts (lw_V q584 q586 qs6 q103 q587) rfl rfl rfl jhdJ4_checkElementIndex ⟨Nat.le_of_ble_eq_true rfl, Nat.le_of_ble_eq_true rfl⟩) (g_recv hE hk hH (ci := 16) (q := (RJ4, TJ4, 4)) rfl (chk_o ek1).choose_spec) rfl rfl hl.1 rfl rfl (lv_room (Nat.le_of_ble_eq_true rfl)) dJ4_get_2 hH hS (by omega) (by omega) (fun H locs hH hS => ?_)
  have hkc : kc + c1 + c2_1 ≤ mc := by omega
  have hks : ks + n1 + n2_1 ≤ ms := by omega
  refine lv_aload_n (pc := 5) hx hb dJ4_get_5 rfl (lv_at hl 0 rfl) ?_
  refine lv_iload_n (pc := 6) hx hb dJ4_get_6 rfl (lv_at hl 1 rfl) ?_
  obtain ⟨_, ek2, hf⟩ := bdo hf
  obtain ⟨v2, S2, c2, n2, c2_2, n2_2, e2, hf, hC2, hN2⟩ := gbo hf
  refine g_callV (pc := 7) (o := (some l0)) (b := l0) (As := [.int l1]) (rest := []) (st1 := [va_rf v2]) hc (mJ4_node hk (l0 := l0) (l1 := l1) e2) (cwV 1 hts (lw_V q844 q845 q846 q103 q847) rfl rfl rfl jhdJ4_node ⟨Nat.le_of_ble_eq_true rfl, Nat.le_of_ble_eq_true rfl⟩) (g_recv hE hk hH (ci := 16) (q := (RJ4, TJ4, 4)) rfl (chk_o ek2).choose_spec) rfl rfl hl.1 rfl rfl (lv_room (Nat.le_of_ble_eq_true rfl)) dJ4_get_7 hH hS (by omega) (by omega) (fun H locs hH hS => ?_)
  have hkc : kc + c1 + c2 + c2_2 ≤ mc := by omega
  have hks : ks + n1 + n2 + n2_2 ≤ ms := by omega
  obtain ⟨a3, ea3, hf⟩ := bdo hf
  obtain ⟨v4, e4, hf⟩ := bdo hf
  refine g_get (pc := 10) (o := v2) (a := a3) (ci := 20) (k := 0) (v := va_rf v4) (C := RJ29) (T := TJ29) (N := 3) hx hb hts hown hE hk hH in_J29 rfl (by decide) (hts _ q1680) (fun _ h9 => h9) ea3 (rdR_o e4) dJ4_get_10 ?_
  exact g_aret (pc := 13) (v := v4) hx hb hr (Or.inl ⟨_, rfl⟩) hlk hH hS hkc hks hf dJ4_get_13
theorem mJ4_get {l : Launch} {G : gG} {Rp : gM → gM → Nat → Prop} (hk : rOK Rp) {S S2 : gS} {r2 : Option Nat} {C N : Nat} {l0 : Nat} {l1 : Int32} (hf : fJ4_get G l0 l1 S = some (r2, S2, C, N)) : gMet l yJ4_get cJ4_get 2 (some (.object "java/lang/Object")) 3 102 G Rp [.ref l0, .int l1] S (some (va_rf r2)) S2 C N := by
  refine g_start (by decide) (Nat.le_of_ble_eq_true rfl) (fun p e s m args below meth c ls hc hl hH => ?_)
  have hl : lv_has ls 2 [(0, .ref l0), (1, .int l1)] := hl
  exact wJ4_get_b0 hk hc l0 l1 S _ _ ls 0 0 C N (by omega) (by omega) hH va_S.rf (lv_sub hl [0, 1] rfl) hf
end
section
variable {r : Unit} {Sf : gS}
def fJ29_init (G : gG) (l0 : Nat) (l1 : Option Nat) (l2 : Option Nat) (l3 : Option Nat) (S : gS) : gO Unit :=
  bd (wr S l0 20 0 (va_rf l2)) fun S2 =>
  bd (wr S2 l0 20 1 (va_rf l3)) fun S3 =>
  bd (wr S3 l0 20 2 (va_rf l1)) fun S4 =>
  some ((), S4, 0, 0)
theorem wJ29_init_b0 (hk : rOK Rp) (hc : gC p s m args meth c G RJ29 "<init>" cJ29_init 4 (none)) (l0 : Nat) (l1 : Option Nat) (l2 : Option Nat) (l3 : Option Nat) (S : gS) (H : Heap) (locs : List Loc) (ls : Array Slot) (kc ks C N : Nat) (hkc : kc + C ≤ mc) (hks : ks + N ≤ ms) (hH : hp G Rp S H) (hS : va_S G.2.2.2 s.heap H locs) (hl : lv_has ls 4 [(0, .ref l0), (1, va_rf l1), (2, va_rf l2), (3, va_rf l3)]) (hf : fJ29_init G l0 l1 l2 l3 S = some (r, Sf, C, N)) : W p l e (gR 1 60 mc ms) s m args below meth c H locs kc ks (gQ below G Rp none Sf args s mc ms) (F0 m 0 ls []) := by
  obtain ⟨hx, hb, hr, hlk, hml, hown, hts, hE, hA, hnm⟩ := hc
  have hc : gC p s m args meth c G RJ29 "<init>" cJ29_init 4 (none) := ⟨hx, hb, hr, hlk, hml, hown, hts, hE, hA, hnm⟩
  unfold fJ29_init at hf
  refine lv_aload_n (pc := 0) hx hb dJ29_init_0 rfl (lv_at hl 0 rfl) ?_
  refine W.objInit  hx hb hown (hts _ q1677) (hts _ q169) (hts _ q170) rfl (by rw [hml]; exact hl.1) rfl dJ29_init_1 (Nat.le_of_ble_eq_true rfl) (Nat.le_of_ble_eq_true rfl) ?_
  refine W.eq (g2 := F0 m 4 ls []) rfl ?_
  refine lv_aload_n (pc := 4) hx hb dJ29_init_4 rfl (lv_at hl 0 rfl) ?_
  refine g_aload_n (pc := 5) (o := l2) hx hb dJ29_init_5 rfl (lv_at hl 2 rfl) ?_
  obtain ⟨S2, e2, hf⟩ := bdo hf
  refine g_put (pc := 6) (o := (some l0)) (a := l0) (ci := 20) (k := 0) (v := va_rf l2) (C := RJ29) (T := TJ29) (N := 3) (ty := .object "java/lang/Object") hx hb hts hown hE hk hH hS rfl in_J29 tyJ29_ok nmJ29 rfl (by decide) (hts _ q1678) (fun _ h9 => h9) rfl rfl (nar_rf _ _) (fit_rf _ _) rfl e2 dJ29_init_6 (fun H locs hH hS => ?_)
  refine lv_aload_n (pc := 9) hx hb dJ29_init_9 rfl (lv_at hl 0 rfl) ?_
  refine g_aload_n (pc := 10) (o := l3) hx hb dJ29_init_10 rfl (lv_at hl 3 rfl) ?_
  obtain ⟨S3, e3, hf⟩ := bdo hf
  refine g_put (pc := 11) (o := (some l0)) (a := l0) (ci := 20) (k := 1) (v := va_rf l3) (C := RJ29) (T := TJ29) (N := 3) (ty := .object "java/util/LinkedList$Node") hx hb hts hown hE hk hH hS rfl in_J29 tyJ29_ok nmJ29 rfl (by decide) (hts _ q1681) (fun _ h9 => h9) rfl rfl (nar_rf _ _) (fit_rf _ _) rfl e3 dJ29_init_11 (fun H locs hH hS => ?_)
  refine lv_aload_n (pc := 14) hx hb dJ29_init_14 rfl (lv_at hl 0 rfl) ?_
  refine g_aload_n (pc := 15) (o := l1) hx hb dJ29_init_15 rfl (lv_at hl 1 rfl) ?_
  obtain ⟨S4, e4, hf⟩ := bdo hf
  refine g_put (pc := 16) (o := (some l0)) (a := l0) (ci := 20) (k := 2) (v := va_rf l1) (C := RJ29) (T := TJ29) (N := 3) (ty := .object "java/util/LinkedList$Node") hx hb hts hown hE hk hH hS rfl in_J29 tyJ29_ok nmJ29 rfl (by decide) (hts _ q1684) (fun _ h9 => h9) rfl rfl (nar_rf _ _) (fit_rf _ _) rfl e4 dJ29_init_16 (fun H locs hH hS => ?_)
  exact g_vret (pc := 19) hx hb hr hlk hH hS hkc hks hf dJ29_init_19
theorem mJ29_init {l : Launch} {G : gG} {Rp : gM → gM → Nat → Prop} (hk : rOK Rp) {S S2 : gS} {r2 : Unit} {C N : Nat} {l0 : Nat} {l1 : Option Nat} {l2 : Option Nat} {l3 : Option Nat} (hf : fJ29_init G l0 l1 l2 l3 S = some (r2, S2, C, N)) : gMet l yJ29_init cJ29_init 4 (none) 1 60 G Rp [.ref l0, va_rf l1, va_rf l2, va_rf l3] S none S2 C N := by
  refine g_start (by decide) (by simp [lg_sl, va_rf_cat, cat_i, cat_j, cat_r]) (fun p e s m args below meth c ls hc hl hH => ?_)
  have hl : lv_has ls 4 [(0, .ref l0), (1, va_rf l1), (2, va_rf l2), (3, va_rf l3)] := by simpa [lv_args, va_rf_cat, cat_i, cat_j, cat_r] using hl
  exact wJ29_init_b0 hk hc l0 l1 l2 l3 S _ _ ls 0 0 C N (by omega) (by omega) hH va_S.rf (lv_sub hl [0, 1, 2, 3] rfl) hf
end
section
variable {r : Unit} {Sf : gS}
def fJ4_linkLast_b38 (G : gG) (l0 : Nat) (S : gS) : gO Unit :=
  bd (rdI S l0 16 1) fun v1 =>
  bd (wr S l0 16 1 (.int (v1 + (nI 1)))) fun S2 =>
  bd (rdI S2 l0 16 0) fun v3 =>
  bd (wr S2 l0 16 0 (.int (v3 + (nI 1)))) fun S4 =>
  some ((), S4, 0, 0)
theorem wJ4_linkLast_b38 (hk : rOK Rp) (hc : gC p s m args meth c G RJ4 "linkLast" cJ4_linkLast 4 (none)) (l0 : Nat) (S : gS) (H : Heap) (locs : List Loc) (ls : Array Slot) (kc ks C N : Nat) (hkc : kc + C ≤ mc) (hks : ks + N ≤ ms) (hH : hp G Rp S H) (hS : va_S G.2.2.2 s.heap H locs) (hl : lv_has ls 4 [(0, .ref l0)]) (hf : fJ4_linkLast_b38 G l0 S = some (r, Sf, C, N)) : W p l e (gR 2 83 mc ms) s m args below meth c H locs kc ks (gQ below G Rp none Sf args s mc ms) (F0 m 38 ls []) := by
  obtain ⟨hx, hb, hr, hlk, hml, hown, hts, hE, hA, hnm⟩ := hc
  have hc : gC p s m args meth c G RJ4 "linkLast" cJ4_linkLast 4 (none) := ⟨hx, hb, hr, hlk, hml, hown, hts, hE, hA, hnm⟩
  unfold fJ4_linkLast_b38 at hf
  refine lv_aload_n (pc := 38) hx hb dJ4_linkLast_38 rfl (lv_at hl 0 rfl) ?_
  refine lv_dup (pc := 39) hx hb dJ4_linkLast_39 rfl ?_
  obtain ⟨v1, e1, hf⟩ := bdo hf
  refine g_get (pc := 40) (o := (some l0)) (a := l0) (ci := 16) (k := 1) (v := .int v1) (C := RJ4) (T := TJ4) (N := 4) hx hb hts hown hE hk hH in_J4 rfl (by decide) (hts _ q219) (fun _ h9 => h9) rfl (rdI_o e1) dJ4_linkLast_40 ?_
  refine lv_iconst (pc := 43) (v := nI 1) hx hb dJ4_linkLast_43 rfl ?_
  refine lv_iadd (pc := 44) hx hb dJ4_linkLast_44 ?_
  obtain ⟨S2, e2, hf⟩ := bdo hf
  refine g_put (pc := 45) (o := (some l0)) (a := l0) (ci := 16) (k := 1) (v := .int (v1 + (nI 1))) (C := RJ4) (T := TJ4) (N := 4) (ty := .int) hx hb hts hown hE hk hH hS rfl in_J4 tyJ4_ok nmJ4 rfl (by decide) (hts _ q219) (fun _ h9 => h9) rfl rfl rfl rfl rfl e2 dJ4_linkLast_45 (fun H locs hH hS => ?_)
  refine lv_aload_n (pc := 48) hx hb dJ4_linkLast_48 rfl (lv_at hl 0 rfl) ?_
  refine lv_dup (pc := 49) hx hb dJ4_linkLast_49 rfl ?_
  obtain ⟨v3, e3, hf⟩ := bdo hf
  refine g_get (pc := 50) (o := (some l0)) (a := l0) (ci := 16) (k := 0) (v := .int v3) (C := RJ4) (T := TJ4) (N := 4) hx hb hts hown hE hk hH in_J4 rfl (by decide) (hts _ q201) (fun x h9 => u_same (hts _ q197) x h9) rfl (rdI_o e3) dJ4_linkLast_50 ?_
  refine lv_iconst (pc := 53) (v := nI 1) hx hb dJ4_linkLast_53 rfl ?_
  refine lv_iadd (pc := 54) hx hb dJ4_linkLast_54 ?_
  obtain ⟨S4, e4, hf⟩ := bdo hf
  refine g_put (pc := 55) (o := (some l0)) (a := l0) (ci := 16) (k := 0) (v := .int (v3 + (nI 1))) (C := RJ4) (T := TJ4) (N := 4) (ty := .int) hx hb hts hown hE hk hH hS rfl in_J4 tyJ4_ok nmJ4 rfl (by decide) (hts _ q201) (fun x h9 => u_same (hts _ q197) x h9) rfl rfl rfl rfl rfl e4 dJ4_linkLast_55 (fun H locs hH hS => ?_)
  exact g_vret (pc := 58) hx hb hr hlk hH hS hkc hks hf dJ4_linkLast_58
def fJ4_linkLast (G : gG) (l0 : Nat) (l1 : Option Nat) (S : gS) : gO Unit :=
  bd (rdR S l0 16 3) fun v1 =>
  nw S (cO 20 [.null, .null, .null]) 3 fun S2 =>
  gb (fJ29_init G S.2 v1 l1 none S2) fun _ S3 =>
  bd (wr S3 l0 16 3 (.ref S.2)) fun S4 =>
  if v1 = none then
    bd (wr S4 l0 16 2 (.ref S.2)) fun S8 =>
    fJ4_linkLast_b38 G l0 S8
  else
    bd v1 fun a6 =>
    bd (wr S4 a6 20 1 (.ref S.2)) fun S7 =>
    fJ4_linkLast_b38 G l0 S7
theorem wJ4_linkLast_b0 (hk : rOK Rp) (hc : gC p s m args meth c G RJ4 "linkLast" cJ4_linkLast 4 (none)) (l0 : Nat) (l1 : Option Nat) (S : gS) (H : Heap) (locs : List Loc) (ls : Array Slot) (kc ks C N : Nat) (hkc : kc + C ≤ mc) (hks : ks + N ≤ ms) (hH : hp G Rp S H) (hS : va_S G.2.2.2 s.heap H locs) (hl : lv_has ls 4 [(0, .ref l0), (1, va_rf l1)]) (hf : fJ4_linkLast G l0 l1 S = some (r, Sf, C, N)) : W p l e (gR 2 83 mc ms) s m args below meth c H locs kc ks (gQ below G Rp none Sf args s mc ms) (F0 m 0 ls []) := by
  obtain ⟨hx, hb, hr, hlk, hml, hown, hts, hE, hA, hnm⟩ := hc
  have hc : gC p s m args meth c G RJ4 "linkLast" cJ4_linkLast 4 (none) := ⟨hx, hb, hr, hlk, hml, hown, hts, hE, hA, hnm⟩
  unfold fJ4_linkLast at hf
  refine lv_aload_n (pc := 0) hx hb dJ4_linkLast_0 rfl (lv_at hl 0 rfl) ?_
  obtain ⟨v1, e1, hf⟩ := bdo hf
  refine g_get (pc := 1) (o := (some l0)) (a := l0) (ci := 16) (k := 3) (v := va_rf v1) (C := RJ4) (T := TJ4) (N := 4) hx hb hts hown hE hk hH in_J4 rfl (by decide) (hts _ q222) (fun _ h9 => h9) rfl (rdR_o e1) dJ4_linkLast_1 ?_
  refine g_astore_n (pc := 4) (i := 2) (o := v1) (lv' := [(2, va_rf v1), (0, .ref l0), (1, va_rf l1)]) hx hb dJ4_linkLast_4 rfl hl (by decide) (by simp [va_rf_cat, cat_i, cat_j, cat_r] <;> rfl) (fun ls hl => ?_)
  obtain ⟨S2, c2_2, n2_2, eS2, hf, hC2, hN2⟩ := nwo hf
  refine g_newo (pc := 5) (ci := 20) (C := RJ29) (T := TJ29) (N := 3) (fs := [.null, .null, .null]) hx hb hts hown hE hA hk hH hS in_J29 tyJ29_ok q1672 q1673 q143 rfl (fun j hj => by rcases (show j = 0 ∨ j = 1 ∨ j = 2 by omega) with rfl | rfl | rfl <;> rfl) eS2 (Nat.le_trans (by omega) hkc) (Nat.le_trans (by omega) hks) dJ4_linkLast_5 (fun H hH hS => ?_)
  have hkc : kc + 1 + c2_2 ≤ mc := by omega
  have hks : ks + 3 + n2_2 ≤ ms := by omega
  refine lv_dup (pc := 8) hx hb dJ4_linkLast_8 rfl ?_
  refine g_aload_n (pc := 9) (o := v1) hx hb dJ4_linkLast_9 rfl (lv_at hl 0 rfl) ?_
  refine g_aload_n (pc := 10) (o := l1) hx hb dJ4_linkLast_10 rfl (lv_at hl 2 rfl) ?_
  refine lv_null (pc := 11) hx hb dJ4_linkLast_11 ?_
  obtain ⟨_, S3, c3, n3, c2_3, n2_3, e3, hf, hC3, hN3⟩ := gbo hf
  refine g_callI (pc := 12) (o := (some S.2)) (b := S.2) (As := [va_rf v1, va_rf l1, va_rf none]) (rest := [.ref S.2]) hc (mJ29_init hk (l0 := S.2) (l1 := v1) (l2 := l1) (l3 := none) e3) (cwI 3 hts (lw_meth q1676) rfl rfl rfl (hts _ q143) (hts _ q1674) (hts _ q1675) rfl jhdiJ29_init ⟨Nat.le_of_ble_eq_true rfl, Nat.le_of_ble_eq_true rfl⟩) rfl rfl hl.1 rfl (lv_room (Nat.le_of_ble_eq_true rfl)) dJ4_linkLast_12 hH hS (by omega) (by omega) (fun H locs hH hS => ?_)
  have hkc : kc + 1 + c3 + c2_3 ≤ mc := by omega
  have hks : ks + 3 + n3 + n2_3 ≤ ms := by omega
  refine lv_astore_n (pc := 15) (i := 3) (lv' := [(3, .ref S.2), (2, va_rf v1), (0, .ref l0), (1, va_rf l1)]) hx hb dJ4_linkLast_15 rfl hl (by decide) (by simp [va_rf_cat, cat_i, cat_j, cat_r] <;> rfl) (fun ls hl => ?_)
  refine lv_aload_n (pc := 16) hx hb dJ4_linkLast_16 rfl (lv_at hl 2 rfl) ?_
  refine lv_aload_n (pc := 17) hx hb dJ4_linkLast_17 rfl (lv_at hl 0 rfl) ?_
  obtain ⟨S4, e4, hf⟩ := bdo hf
  refine g_put (pc := 18) (o := (some l0)) (a := l0) (ci := 16) (k := 3) (v := .ref S.2) (C := RJ4) (T := TJ4) (N := 4) (ty := .object "java/util/LinkedList$Node") hx hb hts hown hE hk hH hS rfl in_J4 tyJ4_ok nmJ4 rfl (by decide) (hts _ q222) (fun _ h9 => h9) rfl rfl rfl rfl rfl e4 dJ4_linkLast_18 (fun H locs hH hS => ?_)
  refine g_aload_n (pc := 21) (o := v1) hx hb dJ4_linkLast_21 rfl (lv_at hl 1 rfl) ?_
  refine g_ifnonnull (pc := 22) (o := v1) (tgt := 33) hx hb dJ4_linkLast_22 (by decide) (fun c5 => ?_) (fun c5 => ?_)
  · rw [if_neg c5] at hf
    refine g_aload_n (pc := 33) (o := v1) hx hb dJ4_linkLast_33 rfl (lv_at hl 1 rfl) ?_
    refine lv_aload_n (pc := 34) hx hb dJ4_linkLast_34 rfl (lv_at hl 0 rfl) ?_
    obtain ⟨a6, ea6, hf⟩ := bdo hf
    obtain ⟨S7, e7, hf⟩ := bdo hf
    refine g_put (pc := 35) (o := v1) (a := a6) (ci := 20) (k := 1) (v := .ref S.2) (C := RJ29) (T := TJ29) (N := 3) (ty := .object "java/util/LinkedList$Node") hx hb hts hown hE hk hH hS rfl in_J29 tyJ29_ok nmJ29 rfl (by decide) (hts _ q1683) (fun _ h9 => h9) rfl rfl rfl rfl ea6 e7 dJ4_linkLast_35 (fun H locs hH hS => ?_)
    exact wJ4_linkLast_b38 hk hc l0 S7 _ _ ls _ _ _ _ hkc hks hH hS (lv_sub hl [2] rfl) hf
  · rw [if_pos c5] at hf
    refine lv_aload_n (pc := 25) hx hb dJ4_linkLast_25 rfl (lv_at hl 2 rfl) ?_
    refine lv_aload_n (pc := 26) hx hb dJ4_linkLast_26 rfl (lv_at hl 0 rfl) ?_
    obtain ⟨S8, e8, hf⟩ := bdo hf
    refine g_put (pc := 27) (o := (some l0)) (a := l0) (ci := 16) (k := 2) (v := .ref S.2) (C := RJ4) (T := TJ4) (N := 4) (ty := .object "java/util/LinkedList$Node") hx hb hts hown hE hk hH hS rfl in_J4 tyJ4_ok nmJ4 rfl (by decide) (hts _ q221) (fun _ h9 => h9) rfl rfl rfl rfl rfl e8 dJ4_linkLast_27 (fun H locs hH hS => ?_)
    refine lv_goto (pc := 30) (tgt := 38) hx hb dJ4_linkLast_30 (by decide) ?_
    exact wJ4_linkLast_b38 hk hc l0 S8 _ _ ls _ _ _ _ hkc hks hH hS (lv_sub hl [2] rfl) hf
theorem mJ4_linkLast {l : Launch} {G : gG} {Rp : gM → gM → Nat → Prop} (hk : rOK Rp) {S S2 : gS} {r2 : Unit} {C N : Nat} {l0 : Nat} {l1 : Option Nat} (hf : fJ4_linkLast G l0 l1 S = some (r2, S2, C, N)) : gMet l yJ4_linkLast cJ4_linkLast 4 (none) 2 83 G Rp [.ref l0, va_rf l1] S none S2 C N := by
  refine g_start (by decide) (by simp [lg_sl, va_rf_cat, cat_i, cat_j, cat_r]) (fun p e s m args below meth c ls hc hl hH => ?_)
  have hl : lv_has ls 4 [(0, .ref l0), (1, va_rf l1)] := by simpa [lv_args, va_rf_cat, cat_i, cat_j, cat_r] using hl
  exact wJ4_linkLast_b0 hk hc l0 l1 S _ _ ls 0 0 C N (by omega) (by omega) hH va_S.rf (lv_sub hl [0, 1] rfl) hf
end
section
variable {r : Unit} {Sf : gS}
def fJ4_addLast (G : gG) (l0 : Nat) (l1 : Option Nat) (S : gS) : gO Unit :=
  bd (chk S l0 16) fun _ =>
  gb (fJ4_linkLast G l0 l1 S) fun _ S1 =>
  some ((), S1, 0, 0)
theorem wJ4_addLast_b0 (hk : rOK Rp) (hc : gC p s m args meth c G RJ4 "addLast" cJ4_addLast 2 (none)) (l0 : Nat) (l1 : Option Nat) (S : gS) (H : Heap) (locs : List Loc) (ls : Array Slot) (kc ks C N : Nat) (hkc : kc + C ≤ mc) (hks : ks + N ≤ ms) (hH : hp G Rp S H) (hS : va_S G.2.2.2 s.heap H locs) (hl : lv_has ls 2 [(0, .ref l0), (1, va_rf l1)]) (hf : fJ4_addLast G l0 l1 S = some (r, Sf, C, N)) : W p l e (gR 3 106 mc ms) s m args below meth c H locs kc ks (gQ below G Rp none Sf args s mc ms) (F0 m 0 ls []) := by
  obtain ⟨hx, hb, hr, hlk, hml, hown, hts, hE, hA, hnm⟩ := hc
  have hc : gC p s m args meth c G RJ4 "addLast" cJ4_addLast 2 (none) := ⟨hx, hb, hr, hlk, hml, hown, hts, hE, hA, hnm⟩
  unfold fJ4_addLast at hf
  refine lv_aload_n (pc := 0) hx hb dJ4_addLast_0 rfl (lv_at hl 0 rfl) ?_
  refine g_aload_n (pc := 1) (o := l1) hx hb dJ4_addLast_1 rfl (lv_at hl 1 rfl) ?_
  obtain ⟨_, ek1, hf⟩ := bdo hf
  obtain ⟨_, S1, c1, n1, c2_1, n2_1, e1, hf, hC1, hN1⟩ := gbo hf
  refine g_callV (pc := 2) (o := (some l0)) (b := l0) (As := [va_rf l1]) (rest := []) (st1 := []) hc (mJ4_linkLast hk (l0 := l0) (l1 := l1) e1) (cwV 1 hts (lw_V q1668 q1669 q1670 q103 q1671) rfl rfl rfl jhdJ4_linkLast ⟨Nat.le_of_ble_eq_true rfl, Nat.le_of_ble_eq_true rfl⟩) (g_recv hE hk hH (ci := 16) (q := (RJ4, TJ4, 4)) rfl (chk_o ek1).choose_spec) rfl rfl hl.1 rfl rfl (lv_room (Nat.le_of_ble_eq_true rfl)) dJ4_addLast_2 hH hS (by omega) (by omega) (fun H locs hH hS => ?_)
  have hkc : kc + c1 + c2_1 ≤ mc := by omega
  have hks : ks + n1 + n2_1 ≤ ms := by omega
  exact g_vret (pc := 5) hx hb hr hlk hH hS hkc hks hf dJ4_addLast_5
theorem mJ4_addLast {l : Launch} {G : gG} {Rp : gM → gM → Nat → Prop} (hk : rOK Rp) {S S2 : gS} {r2 : Unit} {C N : Nat} {l0 : Nat} {l1 : Option Nat} (hf : fJ4_addLast G l0 l1 S = some (r2, S2, C, N)) : gMet l yJ4_addLast cJ4_addLast 2 (none) 3 106 G Rp [.ref l0, va_rf l1] S none S2 C N := by
  refine g_start (by decide) (by simp [lg_sl, va_rf_cat, cat_i, cat_j, cat_r]) (fun p e s m args below meth c ls hc hl hH => ?_)
  have hl : lv_has ls 2 [(0, .ref l0), (1, va_rf l1)] := by simpa [lv_args, va_rf_cat, cat_i, cat_j, cat_r] using hl
  exact wJ4_addLast_b0 hk hc l0 l1 S _ _ ls 0 0 C N (by omega) (by omega) hH va_S.rf (lv_sub hl [0, 1] rfl) hf
end
section
variable {r : Int32} {Sf : gS}
def fJ4_isPositionIndex (G : gG) (l0 : Nat) (l1 : Int32) (S : gS) : gO Int32 :=
  if l1 < 0 then
    zg (nI 0) S
  else
    bd (rdI S l0 16 1) fun v2 =>
    if v2 < l1 then
      zg (nI 0) S
    else
      zg (nI 1) S
theorem wJ4_isPositionIndex_b0 (hk : rOK Rp) (hc : gC p s m args meth c G RJ4 "isPositionIndex" cJ4_isPositionIndex 2 (some .boolean)) (l0 : Nat) (l1 : Int32) (S : gS) (H : Heap) (locs : List Loc) (ls : Array Slot) (kc ks C N : Nat) (hkc : kc + C ≤ mc) (hks : ks + N ≤ ms) (hH : hp G Rp S H) (hS : va_S G.2.2.2 s.heap H locs) (hl : lv_has ls 2 [(0, .ref l0), (1, .int l1)]) (hf : fJ4_isPositionIndex G l0 l1 S = some (r, Sf, C, N)) : W p l e (gR 1 60 mc ms) s m args below meth c H locs kc ks (gQ below G Rp (some (.int r)) Sf args s mc ms) (F0 m 0 ls []) := by
  obtain ⟨hx, hb, hr, hlk, hml, hown, hts, hE, hA, hnm⟩ := hc
  have hc : gC p s m args meth c G RJ4 "isPositionIndex" cJ4_isPositionIndex 2 (some .boolean) := ⟨hx, hb, hr, hlk, hml, hown, hts, hE, hA, hnm⟩
  unfold fJ4_isPositionIndex at hf
  refine lv_iload_n (pc := 0) hx hb dJ4_isPositionIndex_0 rfl (lv_at hl 1 rfl) ?_
  refine lv_if_lt (pc := 1) (tgt := 16) hx hb dJ4_isPositionIndex_1 (by decide) (fun c1 => ?_) (fun c1 => ?_)
  · rw [if_pos c1] at hf
    refine lv_iconst (pc := 16) (v := nI 0) hx hb dJ4_isPositionIndex_16 rfl ?_
    exact g_zret (pc := 17) hx hb hr hlk hH hS hkc hks hf dJ4_isPositionIndex_17
  · rw [if_neg c1] at hf
    refine lv_iload_n (pc := 4) hx hb dJ4_isPositionIndex_4 rfl (lv_at hl 1 rfl) ?_
    refine lv_aload_n (pc := 5) hx hb dJ4_isPositionIndex_5 rfl (lv_at hl 0 rfl) ?_
    obtain ⟨v2, e2, hf⟩ := bdo hf
    refine g_get (pc := 6) (o := (some l0)) (a := l0) (ci := 16) (k := 1) (v := .int v2) (C := RJ4) (T := TJ4) (N := 4) hx hb hts hown hE hk hH in_J4 rfl (by decide) (hts _ q219) (fun _ h9 => h9) rfl (rdI_o e2) dJ4_isPositionIndex_6 ?_
    refine lv_icmp_gt (pc := 9) (tgt := 16) hx hb dJ4_isPositionIndex_9 (by decide) (fun c3 => ?_) (fun c3 => ?_)
    · rw [if_pos c3] at hf
      refine lv_iconst (pc := 16) (v := nI 0) hx hb dJ4_isPositionIndex_16 rfl ?_
      exact g_zret (pc := 17) hx hb hr hlk hH hS hkc hks hf dJ4_isPositionIndex_17
    · rw [if_neg c3] at hf
      refine lv_iconst (pc := 12) (v := nI 1) hx hb dJ4_isPositionIndex_12 rfl ?_
      refine lv_goto (pc := 13) (tgt := 17) hx hb dJ4_isPositionIndex_13 (by decide) ?_
      exact g_zret (pc := 17) hx hb hr hlk hH hS hkc hks hf dJ4_isPositionIndex_17
theorem mJ4_isPositionIndex {l : Launch} {G : gG} {Rp : gM → gM → Nat → Prop} (hk : rOK Rp) {S S2 : gS} {r2 : Int32} {C N : Nat} {l0 : Nat} {l1 : Int32} (hf : fJ4_isPositionIndex G l0 l1 S = some (r2, S2, C, N)) : gMet l yJ4_isPositionIndex cJ4_isPositionIndex 2 (some .boolean) 1 60 G Rp [.ref l0, .int l1] S (some (.int r2)) S2 C N := by
  refine g_start (by decide) (Nat.le_of_ble_eq_true rfl) (fun p e s m args below meth c ls hc hl hH => ?_)
  have hl : lv_has ls 2 [(0, .ref l0), (1, .int l1)] := hl
  exact wJ4_isPositionIndex_b0 hk hc l0 l1 S _ _ ls 0 0 C N (by omega) (by omega) hH va_S.rf (lv_sub hl [0, 1] rfl) hf
end
section
variable {r : Unit} {Sf : gS}
def fJ4_checkPositionIndex (G : gG) (l0 : Nat) (l1 : Int32) (S : gS) : gO Unit :=
  bd (chk S l0 16) fun _ =>
  gb (fJ4_isPositionIndex G l0 l1 S) fun v1 S1 =>
  if v1 = 0 then
    none
  else
    some ((), S1, 0, 0)
theorem wJ4_checkPositionIndex_b0 (hk : rOK Rp) (hc : gC p s m args meth c G RJ4 "checkPositionIndex" cJ4_checkPositionIndex 2 (none)) (l0 : Nat) (l1 : Int32) (S : gS) (H : Heap) (locs : List Loc) (ls : Array Slot) (kc ks C N : Nat) (hkc : kc + C ≤ mc) (hks : ks + N ≤ ms) (hH : hp G Rp S H) (hS : va_S G.2.2.2 s.heap H locs) (hl : lv_has ls 2 [(0, .ref l0), (1, .int l1)]) (hf : fJ4_checkPositionIndex G l0 l1 S = some (r, Sf, C, N)) : W p l e (gR 2 81 mc ms) s m args below meth c H locs kc ks (gQ below G Rp none Sf args s mc ms) (F0 m 0 ls []) := by
  obtain ⟨hx, hb, hr, hlk, hml, hown, hts, hE, hA, hnm⟩ := hc
  have hc : gC p s m args meth c G RJ4 "checkPositionIndex" cJ4_checkPositionIndex 2 (none) := ⟨hx, hb, hr, hlk, hml, hown, hts, hE, hA, hnm⟩
  unfold fJ4_checkPositionIndex at hf
  refine lv_aload_n (pc := 0) hx hb dJ4_checkPositionIndex_0 rfl (lv_at hl 0 rfl) ?_
  refine lv_iload_n (pc := 1) hx hb dJ4_checkPositionIndex_1 rfl (lv_at hl 1 rfl) ?_
  obtain ⟨_, ek1, hf⟩ := bdo hf
  obtain ⟨v1, S1, c1, n1, c2_1, n2_1, e1, hf, hC1, hN1⟩ := gbo hf
  refine g_callV (pc := 2) (o := (some l0)) (b := l0) (As := [.int l1]) (rest := []) (st1 := [.int v1]) hc (mJ4_isPositionIndex hk (l0 := l0) (l1 := l1) e1) (cwV 1 hts (lw_V q2031 q2033 qs36 q103 q2034) rfl rfl rfl jhdJ4_isPositionIndex ⟨Nat.le_of_ble_eq_true rfl, Nat.le_of_ble_eq_true rfl⟩) (g_recv hE hk hH (ci := 16) (q := (RJ4, TJ4, 4)) rfl (chk_o ek1).choose_spec) rfl rfl hl.1 rfl rfl (lv_room (Nat.le_of_ble_eq_true rfl)) dJ4_checkPositionIndex_2 hH hS (by omega) (by omega) (fun H locs hH hS => ?_)
  have hkc : kc + c1 + c2_1 ≤ mc := by omega
  have hks : ks + n1 + n2_1 ≤ ms := by omega
  refine lv_if_ne (pc := 5) (tgt := 21) hx hb dJ4_checkPositionIndex_5 (by decide) (fun c2 => ?_) (fun c2 => ?_)
  · rw [if_neg c2] at hf
    exact g_vret (pc := 21) hx hb hr hlk hH hS hkc hks hf dJ4_checkPositionIndex_21
  · rw [if_pos c2] at hf
    exact absurd hf (fun h => by cases h)
theorem mJ4_checkPositionIndex {l : Launch} {G : gG} {Rp : gM → gM → Nat → Prop} (hk : rOK Rp) {S S2 : gS} {r2 : Unit} {C N : Nat} {l0 : Nat} {l1 : Int32} (hf : fJ4_checkPositionIndex G l0 l1 S = some (r2, S2, C, N)) : gMet l yJ4_checkPositionIndex cJ4_checkPositionIndex 2 (none) 2 81 G Rp [.ref l0, .int l1] S none S2 C N := by
  refine g_start (by decide) (Nat.le_of_ble_eq_true rfl) (fun p e s m args below meth c ls hc hl hH => ?_)
  have hl : lv_has ls 2 [(0, .ref l0), (1, .int l1)] := hl
  exact wJ4_checkPositionIndex_b0 hk hc l0 l1 S _ _ ls 0 0 C N (by omega) (by omega) hH va_S.rf (lv_sub hl [0, 1] rfl) hf
end
section
variable {r : Option Nat} {Sf : gS}
def fJ4_toArray_b15 (G : gG) : Nat → Nat → Int32 → (Option Nat) → gS → gO (Option Nat)
  | 0, _, _, _, _ => none
  | n + 1, l1, l2, l3, S =>
    if l3 = none then
      some ((some l1), S, 0, 0)
    else
      bd l3 fun a2 =>
      bd (rdR S a2 20 0) fun v3 =>
      bd v3 fun a5 =>
      bd (chkA G S a5) fun _ =>
      bd (wrAq S l1 5 l2 (some a5)) fun S4 =>
      bd (rdR S4 a2 20 1) fun v7 =>
      fJ4_toArray_b15 G n l1 (l2 + (nI 1)) v7 S4
theorem wJ4_toArray_b15 (hk : rOK Rp) (hc : gC p s m args meth c G RJ4 "toArray" cJ4_toArray 4 (some (.array (.object "java/lang/Object")))) : ∀ (n : Nat) (l1 : Nat) (l2 : Int32) (l3 : Option Nat) (S : gS) (H : Heap) (locs : List Loc) (ls : Array Slot) (kc ks C N : Nat), kc + C ≤ mc → ks + N ≤ ms → hp G Rp S H → va_S G.2.2.2 s.heap H locs → lv_has ls 4 [(1, .ref l1), (2, .int l2), (3, va_rf l3)] → fJ4_toArray_b15 G n l1 l2 l3 S = some (r, Sf, C, N) → W p l e (gR 1 60 mc ms) s m args below meth c H locs kc ks (gQ below G Rp (some (va_rf r)) Sf args s mc ms) (F0 m 15 ls []) := by
  obtain ⟨hx, hb, hr, hlk, hml, hown, hts, hE, hA, hnm⟩ := hc
  have hc : gC p s m args meth c G RJ4 "toArray" cJ4_toArray 4 (some (.array (.object "java/lang/Object"))) := ⟨hx, hb, hr, hlk, hml, hown, hts, hE, hA, hnm⟩
  intro n
  induction n with
  | zero => intro l1 l2 l3 S H locs ls kc ks C N _ _ _ _ _ hf; exact absurd hf (fun h => by cases h)
  | succ n ih =>
    intro l1 l2 l3 S H locs ls kc ks C N hkc hks hH hS hl hf
    rw [fJ4_toArray_b15] at hf
    refine g_aload_n (pc := 15) (o := l3) hx hb dJ4_toArray_15 rfl (lv_at hl 2 rfl) ?_
    refine g_ifnull (pc := 16) (o := l3) (tgt := 37) hx hb dJ4_toArray_16 (by decide) (fun c1 => ?_) (fun c1 => ?_)
    · rw [if_pos c1] at hf
      refine lv_aload_n (pc := 37) hx hb dJ4_toArray_37 rfl (lv_at hl 0 rfl) ?_
      exact g_aret (pc := 38) (v := (some l1)) hx hb hr (Or.inr ⟨_, rfl⟩) hlk hH hS hkc hks hf dJ4_toArray_38
    · rw [if_neg c1] at hf
      refine lv_aload_n (pc := 19) hx hb dJ4_toArray_19 rfl (lv_at hl 0 rfl) ?_
      refine lv_iload_n (pc := 20) hx hb dJ4_toArray_20 rfl (lv_at hl 1 rfl) ?_
      refine lv_iinc (pc := 21) (v := l2 + (nI 1)) (lv' := [(2, .int (l2 + (nI 1))), (1, .ref l1), (3, va_rf l3)]) hx hb dJ4_toArray_21 hl (k := 1) rfl rfl (by decide) rfl (fun ls hl => ?_)
      refine g_aload_n (pc := 24) (o := l3) hx hb dJ4_toArray_24 rfl (lv_at hl 2 rfl) ?_
      obtain ⟨a2, ea2, hf⟩ := bdo hf
      obtain ⟨v3, e3, hf⟩ := bdo hf
      refine g_get (pc := 25) (o := l3) (a := a2) (ci := 20) (k := 0) (v := va_rf v3) (C := RJ29) (T := TJ29) (N := 3) hx hb hts hown hE hk hH in_J29 rfl (by decide) (hts _ q1680) (fun _ h9 => h9) ea2 (rdR_o e3) dJ4_toArray_25 ?_
      obtain ⟨a5, ea5, hf⟩ := bdo hf
      obtain ⟨_, e6, hf⟩ := bdo hf
      obtain ⟨S4, e4, hf⟩ := bdo hf
      refine g_aastM (pc := 28) (o := (some l1)) (a := l1) (vo := v3) (v := a5) hx hb hE hk hH hS rfl ea5 (chkA_o e6) e4 dJ4_toArray_28 (fun H locs hH hS => ?_)
      refine g_aload_n (pc := 29) (o := l3) hx hb dJ4_toArray_29 rfl (lv_at hl 2 rfl) ?_
      obtain ⟨v7, e7, hf⟩ := bdo hf
      refine g_get (pc := 30) (o := l3) (a := a2) (ci := 20) (k := 1) (v := va_rf v7) (C := RJ29) (T := TJ29) (N := 3) hx hb hts hown hE hk hH in_J29 rfl (by decide) (hts _ q1683) (fun _ h9 => h9) ea2 (rdR_o e7) dJ4_toArray_30 ?_
      refine g_astore_n (pc := 33) (i := 3) (o := v7) (lv' := [(3, va_rf v7), (2, .int (l2 + (nI 1))), (1, .ref l1)]) hx hb dJ4_toArray_33 rfl hl (by decide) rfl (fun ls hl => ?_)
      refine lv_goto (pc := 34) (tgt := 15) hx hb dJ4_toArray_34 (by decide) ?_
      exact ih l1 (l2 + (nI 1)) v7 S4 _ _ ls _ _ _ _ hkc hks hH hS (lv_sub hl [2, 1, 0] rfl) hf
def fJ4_toArray (G : gG) (l0 : Nat) (S : gS) : gO (Option Nat) :=
  bd (rdI S l0 16 1) fun v1 =>
  nwq S 5 v1 fun S2 =>
  bd (rdR S2 l0 16 2) fun v3 =>
  fJ4_toArray_b15 G FU S.2 (nI 0) v3 S2
theorem wJ4_toArray_b0 (hk : rOK Rp) (hc : gC p s m args meth c G RJ4 "toArray" cJ4_toArray 4 (some (.array (.object "java/lang/Object")))) (l0 : Nat) (S : gS) (H : Heap) (locs : List Loc) (ls : Array Slot) (kc ks C N : Nat) (hkc : kc + C ≤ mc) (hks : ks + N ≤ ms) (hH : hp G Rp S H) (hS : va_S G.2.2.2 s.heap H locs) (hl : lv_has ls 4 [(0, .ref l0)]) (hf : fJ4_toArray G l0 S = some (r, Sf, C, N)) : W p l e (gR 1 60 mc ms) s m args below meth c H locs kc ks (gQ below G Rp (some (va_rf r)) Sf args s mc ms) (F0 m 0 ls []) := by
  obtain ⟨hx, hb, hr, hlk, hml, hown, hts, hE, hA, hnm⟩ := hc
  have hc : gC p s m args meth c G RJ4 "toArray" cJ4_toArray 4 (some (.array (.object "java/lang/Object"))) := ⟨hx, hb, hr, hlk, hml, hown, hts, hE, hA, hnm⟩
  unfold fJ4_toArray at hf
  refine lv_aload_n (pc := 0) hx hb dJ4_toArray_0 rfl (lv_at hl 0 rfl) ?_
  obtain ⟨v1, e1, hf⟩ := bdo hf
  refine g_get (pc := 1) (o := (some l0)) (a := l0) (ci := 16) (k := 1) (v := .int v1) (C := RJ4) (T := TJ4) (N := 4) hx hb hts hown hE hk hH in_J4 rfl (by decide) (hts _ q219) (fun _ h9 => h9) rfl (rdI_o e1) dJ4_toArray_1 ?_
  obtain ⟨hn2, hi2, S2, c2_2, n2_2, eS2, hf, hC2, hN2⟩ := nwqo hf
  refine g_newqo (pc := 4) (C := "java/lang/Object") (t := 5) (t0 := 5) hx hb hts hown hE hA hk hH hS q2733 q1109 rfl hn2 hi2 eS2 (Nat.le_trans (by omega) hkc) (Nat.le_trans (by omega) hks) dJ4_toArray_4 (fun H hH hS => ?_)
  have hkc : kc + 1 + c2_2 ≤ mc := by omega
  have hks : ks + v1.toNatClampNeg + n2_2 ≤ ms := by omega
  refine lv_astore_n (pc := 7) (i := 1) (lv' := [(1, .ref S.2), (0, .ref l0)]) hx hb dJ4_toArray_7 rfl hl (by decide) rfl (fun ls hl => ?_)
  refine lv_iconst (pc := 8) (v := nI 0) hx hb dJ4_toArray_8 rfl ?_
  refine lv_istore_n (pc := 9) (i := 2) (lv' := [(2, .int (nI 0)), (1, .ref S.2), (0, .ref l0)]) hx hb dJ4_toArray_9 rfl hl (by decide) rfl (fun ls hl => ?_)
  refine lv_aload_n (pc := 10) hx hb dJ4_toArray_10 rfl (lv_at hl 2 rfl) ?_
  obtain ⟨v3, e3, hf⟩ := bdo hf
  refine g_get (pc := 11) (o := (some l0)) (a := l0) (ci := 16) (k := 2) (v := va_rf v3) (C := RJ4) (T := TJ4) (N := 4) hx hb hts hown hE hk hH in_J4 rfl (by decide) (hts _ q221) (fun _ h9 => h9) rfl (rdR_o e3) dJ4_toArray_11 ?_
  refine g_astore_n (pc := 14) (i := 3) (o := v3) (lv' := [(3, va_rf v3), (2, .int (nI 0)), (1, .ref S.2), (0, .ref l0)]) hx hb dJ4_toArray_14 rfl hl (by decide) rfl (fun ls hl => ?_)
  exact wJ4_toArray_b15 hk hc FU S.2 (nI 0) v3 S2 _ _ ls _ _ _ _ hkc hks hH hS (lv_sub hl [2, 1, 0] rfl) hf
theorem mJ4_toArray {l : Launch} {G : gG} {Rp : gM → gM → Nat → Prop} (hk : rOK Rp) {S S2 : gS} {r2 : Option Nat} {C N : Nat} {l0 : Nat} (hf : fJ4_toArray G l0 S = some (r2, S2, C, N)) : gMet l yJ4_toArray cJ4_toArray 4 (some (.array (.object "java/lang/Object"))) 1 60 G Rp [.ref l0] S (some (va_rf r2)) S2 C N := by
  refine g_start (by decide) (Nat.le_of_ble_eq_true rfl) (fun p e s m args below meth c ls hc hl hH => ?_)
  have hl : lv_has ls 4 [(0, .ref l0)] := hl
  exact wJ4_toArray_b0 hk hc l0 S _ _ ls 0 0 C N (by omega) (by omega) hH va_S.rf (lv_sub hl [0] rfl) hf
end
section
variable {r : Int32} {Sf : gS}
def fJ4_addAll_2_b159 (G : gG) (l0 : Nat) (l4 : Int32) (S : gS) : gO Int32 :=
  bd (rdI S l0 16 1) fun v1 =>
  bd (wr S l0 16 1 (.int (v1 + l4))) fun S2 =>
  bd (rdI S2 l0 16 0) fun v3 =>
  bd (wr S2 l0 16 0 (.int (v3 + (nI 1)))) fun S4 =>
  zg (nI 1) S4
theorem wJ4_addAll_2_b159 (hk : rOK Rp) (hc : gC p s m args meth c G RJ4 "addAll" cJ4_addAll_2 13 (some .boolean)) (l0 : Nat) (l4 : Int32) (S : gS) (H : Heap) (locs : List Loc) (ls : Array Slot) (kc ks C N : Nat) (hkc : kc + C ≤ mc) (hks : ks + N ≤ ms) (hH : hp G Rp S H) (hS : va_S G.2.2.2 s.heap H locs) (hl : lv_has ls 13 [(0, .ref l0), (4, .int l4)]) (hf : fJ4_addAll_2_b159 G l0 l4 S = some (r, Sf, C, N)) : W p l e (gR 3 102 mc ms) s m args below meth c H locs kc ks (gQ below G Rp (some (.int r)) Sf args s mc ms) (F0 m 159 ls []) := by
  obtain ⟨hx, hb, hr, hlk, hml, hown, hts, hE, hA, hnm⟩ := hc
  have hc : gC p s m args meth c G RJ4 "addAll" cJ4_addAll_2 13 (some .boolean) := ⟨hx, hb, hr, hlk, hml, hown, hts, hE, hA, hnm⟩
  unfold fJ4_addAll_2_b159 at hf
  refine lv_aload_n (pc := 159) hx hb dJ4_addAll_2_159 rfl (lv_at hl 0 rfl) ?_
  refine lv_dup (pc := 160) hx hb dJ4_addAll_2_160 rfl ?_
  obtain ⟨v1, e1, hf⟩ := bdo hf
  refine g_get (pc := 161) (o := (some l0)) (a := l0) (ci := 16) (k := 1) (v := .int v1) (C := RJ4) (T := TJ4) (N := 4) hx hb hts hown hE hk hH in_J4 rfl (by decide) (hts _ q219) (fun _ h9 => h9) rfl (rdI_o e1) dJ4_addAll_2_161 ?_
  refine lv_iload (pc := 164) hx hb dJ4_addAll_2_164 (lv_at hl 1 rfl) ?_
  refine lv_iadd (pc := 166) hx hb dJ4_addAll_2_166 ?_
  obtain ⟨S2, e2, hf⟩ := bdo hf
  refine g_put (pc := 167) (o := (some l0)) (a := l0) (ci := 16) (k := 1) (v := .int (v1 + l4)) (C := RJ4) (T := TJ4) (N := 4) (ty := .int) hx hb hts hown hE hk hH hS rfl in_J4 tyJ4_ok nmJ4 rfl (by decide) (hts _ q219) (fun _ h9 => h9) rfl rfl rfl rfl rfl e2 dJ4_addAll_2_167 (fun H locs hH hS => ?_)
  refine lv_aload_n (pc := 170) hx hb dJ4_addAll_2_170 rfl (lv_at hl 0 rfl) ?_
  refine lv_dup (pc := 171) hx hb dJ4_addAll_2_171 rfl ?_
  obtain ⟨v3, e3, hf⟩ := bdo hf
  refine g_get (pc := 172) (o := (some l0)) (a := l0) (ci := 16) (k := 0) (v := .int v3) (C := RJ4) (T := TJ4) (N := 4) hx hb hts hown hE hk hH in_J4 rfl (by decide) (hts _ q201) (fun x h9 => u_same (hts _ q197) x h9) rfl (rdI_o e3) dJ4_addAll_2_172 ?_
  refine lv_iconst (pc := 175) (v := nI 1) hx hb dJ4_addAll_2_175 rfl ?_
  refine lv_iadd (pc := 176) hx hb dJ4_addAll_2_176 ?_
  obtain ⟨S4, e4, hf⟩ := bdo hf
  refine g_put (pc := 177) (o := (some l0)) (a := l0) (ci := 16) (k := 0) (v := .int (v3 + (nI 1))) (C := RJ4) (T := TJ4) (N := 4) (ty := .int) hx hb hts hown hE hk hH hS rfl in_J4 tyJ4_ok nmJ4 rfl (by decide) (hts _ q201) (fun x h9 => u_same (hts _ q197) x h9) rfl rfl rfl rfl rfl e4 dJ4_addAll_2_177 (fun H locs hH hS => ?_)
  refine lv_iconst (pc := 180) (v := nI 1) hx hb dJ4_addAll_2_180 rfl ?_
  exact g_zret (pc := 181) hx hb hr hlk hH hS hkc hks hf dJ4_addAll_2_181
def fJ4_addAll_2_b68 (G : gG) : Nat → Nat → Int32 → (Option Nat) → (Option Nat) → (Option Nat) → Int32 → Int32 → gS → gO Int32
  | 0, _, _, _, _, _, _, _, _ => none
  | n + 1, l0, l4, l5, l6, l7, l8, l9, S =>
    if l8 ≤ l9 then
      if l6 = none then
        bd (wr S l0 16 3 (va_rf l5)) fun S7 =>
        fJ4_addAll_2_b159 G l0 l4 S7
      else
        bd l5 fun a3 =>
        bd (wr S a3 20 1 (va_rf l6)) fun S4 =>
        bd l6 fun a5 =>
        bd (wr S4 a5 20 2 (va_rf l5)) fun S6 =>
        fJ4_addAll_2_b159 G l0 l4 S6
    else
      bd l7 fun a8 =>
      bd (rdAq S a8 5 l9) fun v9 =>
      nw S (cO 20 [.null, .null, .null]) 3 fun S10 =>
      gb (fJ29_init G S.2 l5 v9 none S10) fun _ S11 =>
      if l5 = none then
        bd (wr S11 l0 16 2 (.ref S.2)) fun S15 =>
        fJ4_addAll_2_b68 G n l0 l4 (some S.2) l6 l7 l8 (l9 + (nI 1)) S15
      else
        bd l5 fun a13 =>
        bd (wr S11 a13 20 1 (.ref S.2)) fun S14 =>
        fJ4_addAll_2_b68 G n l0 l4 (some S.2) l6 l7 l8 (l9 + (nI 1)) S14
theorem wJ4_addAll_2_b68 (hk : rOK Rp) (hc : gC p s m args meth c G RJ4 "addAll" cJ4_addAll_2 13 (some .boolean)) : ∀ (n : Nat) (l0 : Nat) (l4 : Int32) (l5 : Option Nat) (l6 : Option Nat) (l7 : Option Nat) (l8 : Int32) (l9 : Int32) (S : gS) (H : Heap) (locs : List Loc) (ls : Array Slot) (kc ks C N : Nat), kc + C ≤ mc → ks + N ≤ ms → hp G Rp S H → va_S G.2.2.2 s.heap H locs → lv_has ls 13 [(0, .ref l0), (4, .int l4), (5, va_rf l5), (6, va_rf l6), (7, va_rf l7), (8, .int l8), (9, .int l9)] → fJ4_addAll_2_b68 G n l0 l4 l5 l6 l7 l8 l9 S = some (r, Sf, C, N) → W p l e (gR 3 102 mc ms) s m args below meth c H locs kc ks (gQ below G Rp (some (.int r)) Sf args s mc ms) (F0 m 68 ls []) := by
  obtain ⟨hx, hb, hr, hlk, hml, hown, hts, hE, hA, hnm⟩ := hc
  have hc : gC p s m args meth c G RJ4 "addAll" cJ4_addAll_2 13 (some .boolean) := ⟨hx, hb, hr, hlk, hml, hown, hts, hE, hA, hnm⟩
  intro n
  induction n with
  | zero => intro l0 l4 l5 l6 l7 l8 l9 S H locs ls kc ks C N _ _ _ _ _ hf; exact absurd hf (fun h => by cases h)
  | succ n ih =>
    intro l0 l4 l5 l6 l7 l8 l9 S H locs ls kc ks C N hkc hks hH hS hl hf
    rw [fJ4_addAll_2_b68] at hf
    refine lv_iload (pc := 68) hx hb dJ4_addAll_2_68 (lv_at hl 6 rfl) ?_
    refine lv_iload (pc := 70) hx hb dJ4_addAll_2_70 (lv_at hl 5 rfl) ?_
    refine lv_icmp_ge (pc := 72) (tgt := 131) hx hb dJ4_addAll_2_72 (by decide) (fun c1 => ?_) (fun c1 => ?_)
    · rw [if_pos c1] at hf
      refine g_aload (pc := 131) (o := l6) hx hb dJ4_addAll_2_131 (lv_at hl 3 rfl) ?_
      refine g_ifnonnull (pc := 133) (o := l6) (tgt := 145) hx hb dJ4_addAll_2_133 (by decide) (fun c2 => ?_) (fun c2 => ?_)
      · rw [if_neg c2] at hf
        refine g_aload (pc := 145) (o := l5) hx hb dJ4_addAll_2_145 (lv_at hl 2 rfl) ?_
        refine g_aload (pc := 147) (o := l6) hx hb dJ4_addAll_2_147 (lv_at hl 3 rfl) ?_
        obtain ⟨a3, ea3, hf⟩ := bdo hf
        obtain ⟨S4, e4, hf⟩ := bdo hf
        refine g_put (pc := 149) (o := l5) (a := a3) (ci := 20) (k := 1) (v := va_rf l6) (C := RJ29) (T := TJ29) (N := 3) (ty := .object "java/util/LinkedList$Node") hx hb hts hown hE hk hH hS rfl in_J29 tyJ29_ok nmJ29 rfl (by decide) (hts _ q1683) (fun _ h9 => h9) rfl rfl (nar_rf _ _) (fit_rf _ _) ea3 e4 dJ4_addAll_2_149 (fun H locs hH hS => ?_)
        refine g_aload (pc := 152) (o := l6) hx hb dJ4_addAll_2_152 (lv_at hl 3 rfl) ?_
        refine g_aload (pc := 154) (o := l5) hx hb dJ4_addAll_2_154 (lv_at hl 2 rfl) ?_
        obtain ⟨a5, ea5, hf⟩ := bdo hf
        obtain ⟨S6, e6, hf⟩ := bdo hf
        refine g_put (pc := 156) (o := l6) (a := a5) (ci := 20) (k := 2) (v := va_rf l5) (C := RJ29) (T := TJ29) (N := 3) (ty := .object "java/util/LinkedList$Node") hx hb hts hown hE hk hH hS rfl in_J29 tyJ29_ok nmJ29 rfl (by decide) (hts _ q1685) (fun _ h9 => h9) rfl rfl (nar_rf _ _) (fit_rf _ _) ea5 e6 dJ4_addAll_2_156 (fun H locs hH hS => ?_)
        exact wJ4_addAll_2_b159 hk hc l0 l4 S6 _ _ ls _ _ _ _ hkc hks hH hS (lv_sub hl [0, 1] rfl) hf
      · rw [if_pos c2] at hf
        refine lv_aload_n (pc := 136) hx hb dJ4_addAll_2_136 rfl (lv_at hl 0 rfl) ?_
        refine g_aload (pc := 137) (o := l5) hx hb dJ4_addAll_2_137 (lv_at hl 2 rfl) ?_
        obtain ⟨S7, e7, hf⟩ := bdo hf
        refine g_put (pc := 139) (o := (some l0)) (a := l0) (ci := 16) (k := 3) (v := va_rf l5) (C := RJ4) (T := TJ4) (N := 4) (ty := .object "java/util/LinkedList$Node") hx hb hts hown hE hk hH hS rfl in_J4 tyJ4_ok nmJ4 rfl (by decide) (hts _ q222) (fun _ h9 => h9) rfl rfl (nar_rf _ _) (fit_rf _ _) rfl e7 dJ4_addAll_2_139 (fun H locs hH hS => ?_)
        refine lv_goto (pc := 142) (tgt := 159) hx hb dJ4_addAll_2_142 (by decide) ?_
        exact wJ4_addAll_2_b159 hk hc l0 l4 S7 _ _ ls _ _ _ _ hkc hks hH hS (lv_sub hl [0, 1] rfl) hf
    · rw [if_neg c1] at hf
      refine g_aload (pc := 75) (o := l7) hx hb dJ4_addAll_2_75 (lv_at hl 4 rfl) ?_
      refine lv_iload (pc := 77) hx hb dJ4_addAll_2_77 (lv_at hl 6 rfl) ?_
      obtain ⟨a8, ea8, hf⟩ := bdo hf
      obtain ⟨v9, e9, hf⟩ := bdo hf
      refine g_aald (pc := 79) (o := l7) (a := a8) (t := 5) (t0 := 5) hx hb hE hk hH rfl ea8 e9 dJ4_addAll_2_79 ?_
      refine g_astore (pc := 80) (i := 10) (o := v9) (lv' := [(10, va_rf v9), (0, .ref l0), (4, .int l4), (5, va_rf l5), (6, va_rf l6), (7, va_rf l7), (8, .int l8), (9, .int l9)]) hx hb dJ4_addAll_2_80 hl (by decide) rfl (fun ls hl => ?_)
      refine g_aload (pc := 82) (o := v9) hx hb dJ4_addAll_2_82 (lv_at hl 0 rfl) ?_
      refine g_astore (pc := 84) (i := 11) (o := v9) (lv' := [(11, va_rf v9), (10, va_rf v9), (0, .ref l0), (4, .int l4), (5, va_rf l5), (6, va_rf l6), (7, va_rf l7), (8, .int l8), (9, .int l9)]) hx hb dJ4_addAll_2_84 hl (by decide) (by simp [va_rf_cat, cat_i, cat_j, cat_r] <;> rfl) (fun ls hl => ?_)
      obtain ⟨S10, c2_10, n2_10, eS10, hf, hC10, hN10⟩ := nwo hf
      refine g_newo (pc := 86) (ci := 20) (C := RJ29) (T := TJ29) (N := 3) (fs := [.null, .null, .null]) hx hb hts hown hE hA hk hH hS in_J29 tyJ29_ok q1672 q1673 q143 rfl (fun j hj => by rcases (show j = 0 ∨ j = 1 ∨ j = 2 by omega) with rfl | rfl | rfl <;> rfl) eS10 (Nat.le_trans (by omega) hkc) (Nat.le_trans (by omega) hks) dJ4_addAll_2_86 (fun H hH hS => ?_)
      have hkc : kc + 1 + c2_10 ≤ mc := by omega
      have hks : ks + 3 + n2_10 ≤ ms := by omega
      refine lv_dup (pc := 89) hx hb dJ4_addAll_2_89 rfl ?_
      refine g_aload (pc := 90) (o := l5) hx hb dJ4_addAll_2_90 (lv_at hl 4 rfl) ?_
      refine g_aload (pc := 92) (o := v9) hx hb dJ4_addAll_2_92 (lv_at hl 0 rfl) ?_
      refine lv_null (pc := 94) hx hb dJ4_addAll_2_94 ?_
      obtain ⟨_, S11, c11, n11, c2_11, n2_11, e11, hf, hC11, hN11⟩ := gbo hf
      refine g_callI (pc := 95) (o := (some S.2)) (b := S.2) (As := [va_rf l5, va_rf v9, va_rf none]) (rest := [.ref S.2]) hc (mJ29_init hk (l0 := S.2) (l1 := l5) (l2 := v9) (l3 := none) e11) (cwI 3 hts (lw_meth q1676) rfl rfl rfl (hts _ q143) (hts _ q1674) (hts _ q1675) rfl jhdiJ29_init ⟨Nat.le_of_ble_eq_true rfl, Nat.le_of_ble_eq_true rfl⟩) rfl rfl hl.1 rfl (lv_room (Nat.le_of_ble_eq_true rfl)) dJ4_addAll_2_95 hH hS (by omega) (by omega) (fun H locs hH hS => ?_)
      have hkc : kc + 1 + c11 + c2_11 ≤ mc := by omega
      have hks : ks + 3 + n11 + n2_11 ≤ ms := by omega
      refine lv_astore (pc := 98) (i := 12) (lv' := [(12, .ref S.2), (11, va_rf v9), (10, va_rf v9), (0, .ref l0), (4, .int l4), (5, va_rf l5), (6, va_rf l6), (7, va_rf l7), (8, .int l8), (9, .int l9)]) hx hb dJ4_addAll_2_98 hl (by decide) (by simp [va_rf_cat, cat_i, cat_j, cat_r] <;> rfl) (fun ls hl => ?_)
      refine g_aload (pc := 100) (o := l5) hx hb dJ4_addAll_2_100 (lv_at hl 5 rfl) ?_
      refine g_ifnonnull (pc := 102) (o := l5) (tgt := 114) hx hb dJ4_addAll_2_102 (by decide) (fun c12 => ?_) (fun c12 => ?_)
      · rw [if_neg c12] at hf
        refine g_aload (pc := 114) (o := l5) hx hb dJ4_addAll_2_114 (lv_at hl 5 rfl) ?_
        refine lv_aload (pc := 116) hx hb dJ4_addAll_2_116 (lv_at hl 0 rfl) ?_
        obtain ⟨a13, ea13, hf⟩ := bdo hf
        obtain ⟨S14, e14, hf⟩ := bdo hf
        refine g_put (pc := 118) (o := l5) (a := a13) (ci := 20) (k := 1) (v := .ref S.2) (C := RJ29) (T := TJ29) (N := 3) (ty := .object "java/util/LinkedList$Node") hx hb hts hown hE hk hH hS rfl in_J29 tyJ29_ok nmJ29 rfl (by decide) (hts _ q1683) (fun _ h9 => h9) rfl rfl rfl rfl ea13 e14 dJ4_addAll_2_118 (fun H locs hH hS => ?_)
        refine lv_aload (pc := 121) hx hb dJ4_addAll_2_121 (lv_at hl 0 rfl) ?_
        refine lv_astore (pc := 123) (i := 5) (lv' := [(5, .ref S.2), (12, .ref S.2), (11, va_rf v9), (10, va_rf v9), (0, .ref l0), (4, .int l4), (6, va_rf l6), (7, va_rf l7), (8, .int l8), (9, .int l9)]) hx hb dJ4_addAll_2_123 hl (by decide) rfl (fun ls hl => ?_)
        refine lv_iinc (pc := 125) (v := l9 + (nI 1)) (lv' := [(9, .int (l9 + (nI 1))), (5, .ref S.2), (12, .ref S.2), (11, va_rf v9), (10, va_rf v9), (0, .ref l0), (4, .int l4), (6, va_rf l6), (7, va_rf l7), (8, .int l8)]) hx hb dJ4_addAll_2_125 hl (k := 9) rfl rfl (by decide) rfl (fun ls hl => ?_)
        refine lv_goto (pc := 128) (tgt := 68) hx hb dJ4_addAll_2_128 (by decide) ?_
        exact ih l0 l4 (some S.2) l6 l7 l8 (l9 + (nI 1)) S14 _ _ ls _ _ _ _ hkc hks hH hS (lv_sub hl [5, 6, 1, 7, 8, 9, 0] rfl) hf
      · rw [if_pos c12] at hf
        refine lv_aload_n (pc := 105) hx hb dJ4_addAll_2_105 rfl (lv_at hl 3 rfl) ?_
        refine lv_aload (pc := 106) hx hb dJ4_addAll_2_106 (lv_at hl 0 rfl) ?_
        obtain ⟨S15, e15, hf⟩ := bdo hf
        refine g_put (pc := 108) (o := (some l0)) (a := l0) (ci := 16) (k := 2) (v := .ref S.2) (C := RJ4) (T := TJ4) (N := 4) (ty := .object "java/util/LinkedList$Node") hx hb hts hown hE hk hH hS rfl in_J4 tyJ4_ok nmJ4 rfl (by decide) (hts _ q221) (fun _ h9 => h9) rfl rfl rfl rfl rfl e15 dJ4_addAll_2_108 (fun H locs hH hS => ?_)
        refine lv_goto (pc := 111) (tgt := 121) hx hb dJ4_addAll_2_111 (by decide) ?_
        refine lv_aload (pc := 121) hx hb dJ4_addAll_2_121 (lv_at hl 0 rfl) ?_
        refine lv_astore (pc := 123) (i := 5) (lv' := [(5, .ref S.2), (12, .ref S.2), (11, va_rf v9), (10, va_rf v9), (0, .ref l0), (4, .int l4), (6, va_rf l6), (7, va_rf l7), (8, .int l8), (9, .int l9)]) hx hb dJ4_addAll_2_123 hl (by decide) rfl (fun ls hl => ?_)
        refine lv_iinc (pc := 125) (v := l9 + (nI 1)) (lv' := [(9, .int (l9 + (nI 1))), (5, .ref S.2), (12, .ref S.2), (11, va_rf v9), (10, va_rf v9), (0, .ref l0), (4, .int l4), (6, va_rf l6), (7, va_rf l7), (8, .int l8)]) hx hb dJ4_addAll_2_125 hl (k := 9) rfl rfl (by decide) rfl (fun ls hl => ?_)
        refine lv_goto (pc := 128) (tgt := 68) hx hb dJ4_addAll_2_128 (by decide) ?_
        exact ih l0 l4 (some S.2) l6 l7 l8 (l9 + (nI 1)) S15 _ _ ls _ _ _ _ hkc hks hH hS (lv_sub hl [5, 6, 1, 7, 8, 9, 0] rfl) hf
def fJ4_addAll_2_b57 (G : gG) (l0 : Nat) (l3 : Option Nat) (l4 : Int32) (l5 : Option Nat) (l6 : Option Nat) (S : gS) : gO Int32 :=
  bd l3 fun a1 =>
  bd (lenQ G S a1) fun v2 =>
  fJ4_addAll_2_b68 G FU l0 l4 l5 l6 l3 v2 (nI 0) S
theorem wJ4_addAll_2_b57 (hk : rOK Rp) (hc : gC p s m args meth c G RJ4 "addAll" cJ4_addAll_2 13 (some .boolean)) (l0 : Nat) (l3 : Option Nat) (l4 : Int32) (l5 : Option Nat) (l6 : Option Nat) (S : gS) (H : Heap) (locs : List Loc) (ls : Array Slot) (kc ks C N : Nat) (hkc : kc + C ≤ mc) (hks : ks + N ≤ ms) (hH : hp G Rp S H) (hS : va_S G.2.2.2 s.heap H locs) (hl : lv_has ls 13 [(0, .ref l0), (3, va_rf l3), (4, .int l4), (5, va_rf l5), (6, va_rf l6)]) (hf : fJ4_addAll_2_b57 G l0 l3 l4 l5 l6 S = some (r, Sf, C, N)) : W p l e (gR 3 102 mc ms) s m args below meth c H locs kc ks (gQ below G Rp (some (.int r)) Sf args s mc ms) (F0 m 57 ls []) := by
  obtain ⟨hx, hb, hr, hlk, hml, hown, hts, hE, hA, hnm⟩ := hc
  have hc : gC p s m args meth c G RJ4 "addAll" cJ4_addAll_2 13 (some .boolean) := ⟨hx, hb, hr, hlk, hml, hown, hts, hE, hA, hnm⟩
  unfold fJ4_addAll_2_b57 at hf
  refine g_aload_n (pc := 57) (o := l3) hx hb dJ4_addAll_2_57 rfl (lv_at hl 1 rfl) ?_
  refine g_astore (pc := 58) (i := 7) (o := l3) (lv' := [(7, va_rf l3), (0, .ref l0), (3, va_rf l3), (4, .int l4), (5, va_rf l5), (6, va_rf l6)]) hx hb dJ4_addAll_2_58 hl (by decide) (by simp [va_rf_cat, cat_i, cat_j, cat_r] <;> rfl) (fun ls hl => ?_)
  refine g_aload (pc := 60) (o := l3) hx hb dJ4_addAll_2_60 (lv_at hl 0 rfl) ?_
  obtain ⟨a1, ea1, hf⟩ := bdo hf
  obtain ⟨v2, e2, hf⟩ := bdo hf
  refine g_lenQ (pc := 62) (o := l3) (a := a1) hx hb hE hk hH hS ea1 e2 dJ4_addAll_2_62 ?_
  refine lv_istore (pc := 63) (i := 8) (lv' := [(8, .int v2), (7, va_rf l3), (0, .ref l0), (3, va_rf l3), (4, .int l4), (5, va_rf l5), (6, va_rf l6)]) hx hb dJ4_addAll_2_63 hl (by decide) (by simp [va_rf_cat, cat_i, cat_j, cat_r] <;> rfl) (fun ls hl => ?_)
  refine lv_iconst (pc := 65) (v := nI 0) hx hb dJ4_addAll_2_65 rfl ?_
  refine lv_istore (pc := 66) (i := 9) (lv' := [(9, .int (nI 0)), (8, .int v2), (7, va_rf l3), (0, .ref l0), (3, va_rf l3), (4, .int l4), (5, va_rf l5), (6, va_rf l6)]) hx hb dJ4_addAll_2_66 hl (by decide) rfl (fun ls hl => ?_)
  exact wJ4_addAll_2_b68 hk hc FU l0 l4 l5 l6 l3 v2 (nI 0) S _ _ ls _ _ _ _ hkc hks hH hS (lv_sub hl [3, 5, 6, 7, 2, 1, 0] rfl) hf
def fJ4_addAll_2 (G : gG) (l0 : Nat) (l1 : Int32) (l2 : Option Nat) (S : gS) : gO Int32 :=
  bd (chk S l0 16) fun _ =>
  gb (fJ4_checkPositionIndex G l0 l1 S) fun _ S1 =>
  bd l2 fun a3 =>
  bd (chk S1 a3 16) fun _ =>
  gb (fJ4_toArray G a3 S1) fun v2 S2 =>
  bd v2 fun a4 =>
  bd (lenQ G S2 a4) fun v5 =>
  if v5 = 0 then
    zg (nI 0) S2
  else
    bd (rdI S2 l0 16 1) fun v7 =>
    if l1 = v7 then
      bd (rdR S2 l0 16 3) fun v12 =>
      fJ4_addAll_2_b57 G l0 v2 v5 v12 none S2
    else
      bd (chk S2 l0 16) fun _ =>
      gb (fJ4_node G l0 l1 S2) fun v9 S9 =>
      bd v9 fun a10 =>
      bd (rdR S9 a10 20 2) fun v11 =>
      fJ4_addAll_2_b57 G l0 v2 v5 v11 v9 S9
theorem wJ4_addAll_2_b0 (hk : rOK Rp) (hc : gC p s m args meth c G RJ4 "addAll" cJ4_addAll_2 13 (some .boolean)) (l0 : Nat) (l1 : Int32) (l2 : Option Nat) (S : gS) (H : Heap) (locs : List Loc) (ls : Array Slot) (kc ks C N : Nat) (hkc : kc + C ≤ mc) (hks : ks + N ≤ ms) (hH : hp G Rp S H) (hS : va_S G.2.2.2 s.heap H locs) (hl : lv_has ls 13 [(0, .ref l0), (1, .int l1), (2, va_rf l2)]) (hf : fJ4_addAll_2 G l0 l1 l2 S = some (r, Sf, C, N)) : W p l e (gR 3 102 mc ms) s m args below meth c H locs kc ks (gQ below G Rp (some (.int r)) Sf args s mc ms) (F0 m 0 ls []) := by
  obtain ⟨hx, hb, hr, hlk, hml, hown, hts, hE, hA, hnm⟩ := hc
  have hc : gC p s m args meth c G RJ4 "addAll" cJ4_addAll_2 13 (some .boolean) := ⟨hx, hb, hr, hlk, hml, hown, hts, hE, hA, hnm⟩
  unfold fJ4_addAll_2 at hf
  refine lv_aload_n (pc := 0) hx hb dJ4_addAll_2_0 rfl (lv_at hl 0 rfl) ?_
  refine lv_iload_n (pc := 1) hx hb dJ4_addAll_2_1 rfl (lv_at hl 1 rfl) ?_
  obtain ⟨_, ek1, hf⟩ := bdo hf
  obtain ⟨_, S1, c1, n1, c2_1, n2_1, e1, hf, hC1, hN1⟩ := gbo hf
  refine g_callV (pc := 2) (o := (some l0)) (b := l0) (As := [.int l1]) (rest := []) (st1 := []) hc (mJ4_checkPositionIndex hk (l0 := l0) (l1 := l1) e1) (cwV 1 hts (lw_V q2027 q2029 qs35 q103 q2030) rfl rfl rfl jhdJ4_checkPositionIndex ⟨Nat.le_of_ble_eq_true rfl, Nat.le_of_ble_eq_true rfl⟩) (g_recv hE hk hH (ci := 16) (q := (RJ4, TJ4, 4)) rfl (chk_o ek1).choose_spec) rfl rfl hl.1 rfl rfl (lv_room (Nat.le_of_ble_eq_true rfl)) dJ4_addAll_2_2 hH hS (by omega) (by omega) (fun H locs hH hS => ?_)
  have hkc : kc + c1 + c2_1 ≤ mc := by omega
  have hks : ks + n1 + n2_1 ≤ ms := by omega
  refine g_aload_n (pc := 5) (o := l2) hx hb dJ4_addAll_2_5 rfl (lv_at hl 2 rfl) ?_
  obtain ⟨a3, ea3, hf⟩ := bdo hf
  obtain ⟨_, ek2, hf⟩ := bdo hf
  obtain ⟨v2, S2, c2, n2, c2_2, n2_2, e2, hf, hC2, hN2⟩ := gbo hf
  refine g_callF (pc := 6) (o := l2) (b := a3) (As := []) (rest := []) (st1 := [va_rf v2]) (ci := 16) (q := (RJ4, TJ4, 4)) hc (mJ4_toArray hk (l0 := a3) e2) (va_cwF 0 hts (lw_app (lw_of4 q2749 q2728 q2730 q103) (lw_meth q2732)) rfl rfl rfl (hE.2.1.2.2.2.2.2 _ _ _ jhdx_toArray.1 q2706 q2705 q2731 q2729 q2727) jhdx_toArray.2 ⟨Nat.le_of_ble_eq_true rfl, Nat.le_of_ble_eq_true rfl⟩) rfl rfl (g_recv hE hk hH (ci := 16) (q := (RJ4, TJ4, 4)) rfl (chk_o ek2).choose_spec) ea3 rfl hl.1 rfl rfl (lv_room (Nat.le_of_ble_eq_true rfl)) dJ4_addAll_2_6 hH hS (by omega) (by omega) (fun H locs hH hS => ?_)
  have hkc : kc + c1 + c2 + c2_2 ≤ mc := by omega
  have hks : ks + n1 + n2 + n2_2 ≤ ms := by omega
  refine g_astore_n (pc := 11) (i := 3) (o := v2) (lv' := [(3, va_rf v2), (0, .ref l0), (1, .int l1), (2, va_rf l2)]) hx hb dJ4_addAll_2_11 rfl hl (by decide) (by simp [va_rf_cat, cat_i, cat_j, cat_r] <;> rfl) (fun ls hl => ?_)
  refine g_aload_n (pc := 12) (o := v2) hx hb dJ4_addAll_2_12 rfl (lv_at hl 0 rfl) ?_
  obtain ⟨a4, ea4, hf⟩ := bdo hf
  obtain ⟨v5, e5, hf⟩ := bdo hf
  refine g_lenQ (pc := 13) (o := v2) (a := a4) hx hb hE hk hH hS ea4 e5 dJ4_addAll_2_13 ?_
  refine lv_istore (pc := 14) (i := 4) (lv' := [(4, .int v5), (3, va_rf v2), (0, .ref l0), (1, .int l1), (2, va_rf l2)]) hx hb dJ4_addAll_2_14 hl (by decide) (by simp [va_rf_cat, cat_i, cat_j, cat_r] <;> rfl) (fun ls hl => ?_)
  refine lv_iload (pc := 16) hx hb dJ4_addAll_2_16 (lv_at hl 0 rfl) ?_
  refine lv_if_ne (pc := 18) (tgt := 23) hx hb dJ4_addAll_2_18 (by decide) (fun c6 => ?_) (fun c6 => ?_)
  · rw [if_neg c6] at hf
    refine lv_iload_n (pc := 23) hx hb dJ4_addAll_2_23 rfl (lv_at hl 3 rfl) ?_
    refine lv_aload_n (pc := 24) hx hb dJ4_addAll_2_24 rfl (lv_at hl 2 rfl) ?_
    obtain ⟨v7, e7, hf⟩ := bdo hf
    refine g_get (pc := 25) (o := (some l0)) (a := l0) (ci := 16) (k := 1) (v := .int v7) (C := RJ4) (T := TJ4) (N := 4) hx hb hts hown hE hk hH in_J4 rfl (by decide) (hts _ q219) (fun _ h9 => h9) rfl (rdI_o e7) dJ4_addAll_2_25 ?_
    refine lv_icmp_ne (pc := 28) (tgt := 43) hx hb dJ4_addAll_2_28 (by decide) (fun c8 => ?_) (fun c8 => ?_)
    · rw [if_neg c8] at hf
      refine lv_aload_n (pc := 43) hx hb dJ4_addAll_2_43 rfl (lv_at hl 2 rfl) ?_
      refine lv_iload_n (pc := 44) hx hb dJ4_addAll_2_44 rfl (lv_at hl 3 rfl) ?_
      obtain ⟨_, ek9, hf⟩ := bdo hf
      obtain ⟨v9, S9, c9, n9, c2_9, n2_9, e9, hf, hC9, hN9⟩ := gbo hf
      refine g_callV (pc := 45) (o := (some l0)) (b := l0) (As := [.int l1]) (rest := []) (st1 := [va_rf v9]) hc (mJ4_node hk (l0 := l0) (l1 := l1) e9) (cwV 1 hts (lw_V q844 q845 q846 q103 q847) rfl rfl rfl jhdJ4_node ⟨Nat.le_of_ble_eq_true rfl, Nat.le_of_ble_eq_true rfl⟩) (g_recv hE hk hH (ci := 16) (q := (RJ4, TJ4, 4)) rfl (chk_o ek9).choose_spec) rfl rfl hl.1 rfl rfl (lv_room (Nat.le_of_ble_eq_true rfl)) dJ4_addAll_2_45 hH hS (by omega) (by omega) (fun H locs hH hS => ?_)
      have hkc : kc + c1 + c2 + c9 + c2_9 ≤ mc := by omega
      have hks : ks + n1 + n2 + n9 + n2_9 ≤ ms := by omega
      refine g_astore (pc := 48) (i := 6) (o := v9) (lv' := [(6, va_rf v9), (4, .int v5), (3, va_rf v2), (0, .ref l0), (1, .int l1), (2, va_rf l2)]) hx hb dJ4_addAll_2_48 hl (by decide) rfl (fun ls hl => ?_)
      refine g_aload (pc := 50) (o := v9) hx hb dJ4_addAll_2_50 (lv_at hl 0 rfl) ?_
      obtain ⟨a10, ea10, hf⟩ := bdo hf
      obtain ⟨v11, e11, hf⟩ := bdo hf
      refine g_get (pc := 52) (o := v9) (a := a10) (ci := 20) (k := 2) (v := va_rf v11) (C := RJ29) (T := TJ29) (N := 3) hx hb hts hown hE hk hH in_J29 rfl (by decide) (hts _ q1685) (fun _ h9 => h9) ea10 (rdR_o e11) dJ4_addAll_2_52 ?_
      refine g_astore (pc := 55) (i := 5) (o := v11) (lv' := [(5, va_rf v11), (6, va_rf v9), (4, .int v5), (3, va_rf v2), (0, .ref l0), (1, .int l1), (2, va_rf l2)]) hx hb dJ4_addAll_2_55 hl (by decide) rfl (fun ls hl => ?_)
      exact wJ4_addAll_2_b57 hk hc l0 v2 v5 v11 v9 S9 _ _ ls _ _ _ _ hkc hks hH hS (lv_sub hl [4, 3, 2, 0, 1] rfl) hf
    · rw [if_pos c8] at hf
      refine lv_null (pc := 31) hx hb dJ4_addAll_2_31 ?_
      refine g_astore (pc := 32) (i := 6) (o := none) (lv' := [(6, .null), (4, .int v5), (3, va_rf v2), (0, .ref l0), (1, .int l1), (2, va_rf l2)]) hx hb dJ4_addAll_2_32 hl (by decide) rfl (fun ls hl => ?_)
      refine lv_aload_n (pc := 34) hx hb dJ4_addAll_2_34 rfl (lv_at hl 3 rfl) ?_
      obtain ⟨v12, e12, hf⟩ := bdo hf
      refine g_get (pc := 35) (o := (some l0)) (a := l0) (ci := 16) (k := 3) (v := va_rf v12) (C := RJ4) (T := TJ4) (N := 4) hx hb hts hown hE hk hH in_J4 rfl (by decide) (hts _ q222) (fun _ h9 => h9) rfl (rdR_o e12) dJ4_addAll_2_35 ?_
      refine g_astore (pc := 38) (i := 5) (o := v12) (lv' := [(5, va_rf v12), (6, .null), (4, .int v5), (3, va_rf v2), (0, .ref l0), (1, .int l1), (2, va_rf l2)]) hx hb dJ4_addAll_2_38 hl (by decide) rfl (fun ls hl => ?_)
      refine lv_goto (pc := 40) (tgt := 57) hx hb dJ4_addAll_2_40 (by decide) ?_
      exact wJ4_addAll_2_b57 hk hc l0 v2 v5 v12 none S2 _ _ ls _ _ _ _ hkc hks hH hS (lv_sub hl [4, 3, 2, 0, 1] rfl) hf
  · rw [if_pos c6] at hf
    refine lv_iconst (pc := 21) (v := nI 0) hx hb dJ4_addAll_2_21 rfl ?_
    exact g_zret (pc := 22) hx hb hr hlk hH hS hkc hks hf dJ4_addAll_2_22
theorem mJ4_addAll_2 {l : Launch} {G : gG} {Rp : gM → gM → Nat → Prop} (hk : rOK Rp) {S S2 : gS} {r2 : Int32} {C N : Nat} {l0 : Nat} {l1 : Int32} {l2 : Option Nat} (hf : fJ4_addAll_2 G l0 l1 l2 S = some (r2, S2, C, N)) : gMet l yJ4_addAll_2 cJ4_addAll_2 13 (some .boolean) 3 102 G Rp [.ref l0, .int l1, va_rf l2] S (some (.int r2)) S2 C N := by
  refine g_start (by decide) (by simp [lg_sl, va_rf_cat, cat_i, cat_j, cat_r]) (fun p e s m args below meth c ls hc hl hH => ?_)
  have hl : lv_has ls 13 [(0, .ref l0), (1, .int l1), (2, va_rf l2)] := by simpa [lv_args, va_rf_cat, cat_i, cat_j, cat_r] using hl
  exact wJ4_addAll_2_b0 hk hc l0 l1 l2 S _ _ ls 0 0 C N (by omega) (by omega) hH va_S.rf (lv_sub hl [0, 1, 2] rfl) hf
end
section
variable {r : Int32} {Sf : gS}
def fJ4_addAll (G : gG) (l0 : Nat) (l1 : Option Nat) (S : gS) : gO Int32 :=
  bd (rdI S l0 16 1) fun v1 =>
  bd (chk S l0 16) fun _ =>
  gb (fJ4_addAll_2 G l0 v1 l1 S) fun v2 S2 =>
  zg v2 S2
theorem wJ4_addAll_b0 (hk : rOK Rp) (hc : gC p s m args meth c G RJ4 "addAll" cJ4_addAll 2 (some .boolean)) (l0 : Nat) (l1 : Option Nat) (S : gS) (H : Heap) (locs : List Loc) (ls : Array Slot) (kc ks C N : Nat) (hkc : kc + C ≤ mc) (hks : ks + N ≤ ms) (hH : hp G Rp S H) (hS : va_S G.2.2.2 s.heap H locs) (hl : lv_has ls 2 [(0, .ref l0), (1, va_rf l1)]) (hf : fJ4_addAll G l0 l1 S = some (r, Sf, C, N)) : W p l e (gR 4 134 mc ms) s m args below meth c H locs kc ks (gQ below G Rp (some (.int r)) Sf args s mc ms) (F0 m 0 ls []) := by
  obtain ⟨hx, hb, hr, hlk, hml, hown, hts, hE, hA, hnm⟩ := hc
  have hc : gC p s m args meth c G RJ4 "addAll" cJ4_addAll 2 (some .boolean) := ⟨hx, hb, hr, hlk, hml, hown, hts, hE, hA, hnm⟩
  unfold fJ4_addAll at hf
  refine lv_aload_n (pc := 0) hx hb dJ4_addAll_0 rfl (lv_at hl 0 rfl) ?_
  refine lv_aload_n (pc := 1) hx hb dJ4_addAll_1 rfl (lv_at hl 0 rfl) ?_
  obtain ⟨v1, e1, hf⟩ := bdo hf
  refine g_get (pc := 2) (o := (some l0)) (a := l0) (ci := 16) (k := 1) (v := .int v1) (C := RJ4) (T := TJ4) (N := 4) hx hb hts hown hE hk hH in_J4 rfl (by decide) (hts _ q219) (fun _ h9 => h9) rfl (rdI_o e1) dJ4_addAll_2 ?_
  refine g_aload_n (pc := 5) (o := l1) hx hb dJ4_addAll_5 rfl (lv_at hl 1 rfl) ?_
  obtain ⟨_, ek2, hf⟩ := bdo hf
  obtain ⟨v2, S2, c2, n2, c2_2, n2_2, e2, hf, hC2, hN2⟩ := gbo hf
  refine g_callV (pc := 6) (o := (some l0)) (b := l0) (As := [.int v1, va_rf l1]) (rest := []) (st1 := [.int v2]) hc (mJ4_addAll_2 hk (l0 := l0) (l1 := v1) (l2 := l1) e2) (cwV 2 hts (lw_V q2744 q2745 q2746 q103 q2747) rfl rfl rfl jhdJ4_addAll_2 ⟨Nat.le_of_ble_eq_true rfl, Nat.le_of_ble_eq_true rfl⟩) (g_recv hE hk hH (ci := 16) (q := (RJ4, TJ4, 4)) rfl (chk_o ek2).choose_spec) rfl rfl hl.1 rfl rfl (lv_room (Nat.le_of_ble_eq_true rfl)) dJ4_addAll_6 hH hS (by omega) (by omega) (fun H locs hH hS => ?_)
  have hkc : kc + c2 + c2_2 ≤ mc := by omega
  have hks : ks + n2 + n2_2 ≤ ms := by omega
  exact g_zret (pc := 9) hx hb hr hlk hH hS hkc hks hf dJ4_addAll_9
theorem mJ4_addAll {l : Launch} {G : gG} {Rp : gM → gM → Nat → Prop} (hk : rOK Rp) {S S2 : gS} {r2 : Int32} {C N : Nat} {l0 : Nat} {l1 : Option Nat} (hf : fJ4_addAll G l0 l1 S = some (r2, S2, C, N)) : gMet l yJ4_addAll cJ4_addAll 2 (some .boolean) 4 134 G Rp [.ref l0, va_rf l1] S (some (.int r2)) S2 C N := by
  refine g_start (by decide) (by simp [lg_sl, va_rf_cat, cat_i, cat_j, cat_r]) (fun p e s m args below meth c ls hc hl hH => ?_)
  have hl : lv_has ls 2 [(0, .ref l0), (1, va_rf l1)] := by simpa [lv_args, va_rf_cat, cat_i, cat_j, cat_r] using hl
  exact wJ4_addAll_b0 hk hc l0 l1 S _ _ ls 0 0 C N (by omega) (by omega) hH va_S.rf (lv_sub hl [0, 1] rfl) hf
end
section
variable {r : Unit} {Sf : gS}
def fJ4_clear_b5 (G : gG) : Nat → Nat → (Option Nat) → gS → gO Unit
  | 0, _, _, _ => none
  | n + 1, l0, l1, S =>
    if l1 = none then
      bd (wr S l0 16 3 (.null)) fun S2 =>
      bd (wr S2 l0 16 2 (.null)) fun S3 =>
      bd (wr S3 l0 16 1 (.int (nI 0))) fun S4 =>
      bd (rdI S4 l0 16 0) fun v5 =>
      bd (wr S4 l0 16 0 (.int (v5 + (nI 1)))) fun S6 =>
      some ((), S6, 0, 0)
    else
      bd l1 fun a7 =>
      bd (rdR S a7 20 1) fun v8 =>
      bd (wr S a7 20 0 (.null)) fun S9 =>
      bd (wr S9 a7 20 1 (.null)) fun S10 =>
      bd (wr S10 a7 20 2 (.null)) fun S11 =>
      fJ4_clear_b5 G n l0 v8 S11
theorem wJ4_clear_b5 (hk : rOK Rp) (hc : gC p s m args meth c G RJ4 "clear" cJ4_clear 3 (none)) : ∀ (n : Nat) (l0 : Nat) (l1 : Option Nat) (S : gS) (H : Heap) (locs : List Loc) (ls : Array Slot) (kc ks C N : Nat), kc + C ≤ mc → ks + N ≤ ms → hp G Rp S H → va_S G.2.2.2 s.heap H locs → lv_has ls 3 [(0, .ref l0), (1, va_rf l1)] → fJ4_clear_b5 G n l0 l1 S = some (r, Sf, C, N) → W p l e (gR 1 60 mc ms) s m args below meth c H locs kc ks (gQ below G Rp none Sf args s mc ms) (F0 m 5 ls []) := by
  obtain ⟨hx, hb, hr, hlk, hml, hown, hts, hE, hA, hnm⟩ := hc
  have hc : gC p s m args meth c G RJ4 "clear" cJ4_clear 3 (none) := ⟨hx, hb, hr, hlk, hml, hown, hts, hE, hA, hnm⟩
  intro n
  induction n with
  | zero => intro l0 l1 S H locs ls kc ks C N _ _ _ _ _ hf; exact absurd hf (fun h => by cases h)
  | succ n ih =>
    intro l0 l1 S H locs ls kc ks C N hkc hks hH hS hl hf
    rw [fJ4_clear_b5] at hf
    refine g_aload_n (pc := 5) (o := l1) hx hb dJ4_clear_5 rfl (lv_at hl 1 rfl) ?_
    refine g_ifnull (pc := 6) (o := l1) (tgt := 34) hx hb dJ4_clear_6 (by decide) (fun c1 => ?_) (fun c1 => ?_)
    · rw [if_pos c1] at hf
      refine lv_aload_n (pc := 34) hx hb dJ4_clear_34 rfl (lv_at hl 0 rfl) ?_
      refine lv_aload_n (pc := 35) hx hb dJ4_clear_35 rfl (lv_at hl 0 rfl) ?_
      refine lv_null (pc := 36) hx hb dJ4_clear_36 ?_
      refine lv_dup_x1 (pc := 37) hx hb dJ4_clear_37 rfl rfl ?_
      obtain ⟨S2, e2, hf⟩ := bdo hf
      refine g_put (pc := 38) (o := (some l0)) (a := l0) (ci := 16) (k := 3) (v := .null) (C := RJ4) (T := TJ4) (N := 4) (ty := .object "java/util/LinkedList$Node") hx hb hts hown hE hk hH hS rfl in_J4 tyJ4_ok nmJ4 rfl (by decide) (hts _ q222) (fun _ h9 => h9) rfl rfl rfl rfl rfl e2 dJ4_clear_38 (fun H locs hH hS => ?_)
      obtain ⟨S3, e3, hf⟩ := bdo hf
      refine g_put (pc := 41) (o := (some l0)) (a := l0) (ci := 16) (k := 2) (v := .null) (C := RJ4) (T := TJ4) (N := 4) (ty := .object "java/util/LinkedList$Node") hx hb hts hown hE hk hH hS rfl in_J4 tyJ4_ok nmJ4 rfl (by decide) (hts _ q221) (fun _ h9 => h9) rfl rfl rfl rfl rfl e3 dJ4_clear_41 (fun H locs hH hS => ?_)
      refine lv_aload_n (pc := 44) hx hb dJ4_clear_44 rfl (lv_at hl 0 rfl) ?_
      refine lv_iconst (pc := 45) (v := nI 0) hx hb dJ4_clear_45 rfl ?_
      obtain ⟨S4, e4, hf⟩ := bdo hf
      refine g_put (pc := 46) (o := (some l0)) (a := l0) (ci := 16) (k := 1) (v := .int (nI 0)) (C := RJ4) (T := TJ4) (N := 4) (ty := .int) hx hb hts hown hE hk hH hS rfl in_J4 tyJ4_ok nmJ4 rfl (by decide) (hts _ q219) (fun _ h9 => h9) rfl rfl rfl rfl rfl e4 dJ4_clear_46 (fun H locs hH hS => ?_)
      refine lv_aload_n (pc := 49) hx hb dJ4_clear_49 rfl (lv_at hl 0 rfl) ?_
      refine lv_dup (pc := 50) hx hb dJ4_clear_50 rfl ?_
      obtain ⟨v5, e5, hf⟩ := bdo hf
      refine g_get (pc := 51) (o := (some l0)) (a := l0) (ci := 16) (k := 0) (v := .int v5) (C := RJ4) (T := TJ4) (N := 4) hx hb hts hown hE hk hH in_J4 rfl (by decide) (hts _ q201) (fun x h9 => u_same (hts _ q197) x h9) rfl (rdI_o e5) dJ4_clear_51 ?_
      refine lv_iconst (pc := 54) (v := nI 1) hx hb dJ4_clear_54 rfl ?_
      refine lv_iadd (pc := 55) hx hb dJ4_clear_55 ?_
      obtain ⟨S6, e6, hf⟩ := bdo hf
      refine g_put (pc := 56) (o := (some l0)) (a := l0) (ci := 16) (k := 0) (v := .int (v5 + (nI 1))) (C := RJ4) (T := TJ4) (N := 4) (ty := .int) hx hb hts hown hE hk hH hS rfl in_J4 tyJ4_ok nmJ4 rfl (by decide) (hts _ q201) (fun x h9 => u_same (hts _ q197) x h9) rfl rfl rfl rfl rfl e6 dJ4_clear_56 (fun H locs hH hS => ?_)
      exact g_vret (pc := 59) hx hb hr hlk hH hS hkc hks hf dJ4_clear_59
    · rw [if_neg c1] at hf
      refine g_aload_n (pc := 9) (o := l1) hx hb dJ4_clear_9 rfl (lv_at hl 1 rfl) ?_
      obtain ⟨a7, ea7, hf⟩ := bdo hf
      obtain ⟨v8, e8, hf⟩ := bdo hf
      refine g_get (pc := 10) (o := l1) (a := a7) (ci := 20) (k := 1) (v := va_rf v8) (C := RJ29) (T := TJ29) (N := 3) hx hb hts hown hE hk hH in_J29 rfl (by decide) (hts _ q1683) (fun _ h9 => h9) ea7 (rdR_o e8) dJ4_clear_10 ?_
      refine g_astore_n (pc := 13) (i := 2) (o := v8) (lv' := [(2, va_rf v8), (0, .ref l0), (1, va_rf l1)]) hx hb dJ4_clear_13 rfl hl (by decide) (by simp [va_rf_cat, cat_i, cat_j, cat_r] <;> rfl) (fun ls hl => ?_)
      refine g_aload_n (pc := 14) (o := l1) hx hb dJ4_clear_14 rfl (lv_at hl 2 rfl) ?_
      refine lv_null (pc := 15) hx hb dJ4_clear_15 ?_
      obtain ⟨S9, e9, hf⟩ := bdo hf
      refine g_put (pc := 16) (o := l1) (a := a7) (ci := 20) (k := 0) (v := .null) (C := RJ29) (T := TJ29) (N := 3) (ty := .object "java/lang/Object") hx hb hts hown hE hk hH hS rfl in_J29 tyJ29_ok nmJ29 rfl (by decide) (hts _ q1680) (fun _ h9 => h9) rfl rfl rfl rfl ea7 e9 dJ4_clear_16 (fun H locs hH hS => ?_)
      refine g_aload_n (pc := 19) (o := l1) hx hb dJ4_clear_19 rfl (lv_at hl 2 rfl) ?_
      refine lv_null (pc := 20) hx hb dJ4_clear_20 ?_
      obtain ⟨S10, e10, hf⟩ := bdo hf
      refine g_put (pc := 21) (o := l1) (a := a7) (ci := 20) (k := 1) (v := .null) (C := RJ29) (T := TJ29) (N := 3) (ty := .object "java/util/LinkedList$Node") hx hb hts hown hE hk hH hS rfl in_J29 tyJ29_ok nmJ29 rfl (by decide) (hts _ q1683) (fun _ h9 => h9) rfl rfl rfl rfl ea7 e10 dJ4_clear_21 (fun H locs hH hS => ?_)
      refine g_aload_n (pc := 24) (o := l1) hx hb dJ4_clear_24 rfl (lv_at hl 2 rfl) ?_
      refine lv_null (pc := 25) hx hb dJ4_clear_25 ?_
      obtain ⟨S11, e11, hf⟩ := bdo hf
      refine g_put (pc := 26) (o := l1) (a := a7) (ci := 20) (k := 2) (v := .null) (C := RJ29) (T := TJ29) (N := 3) (ty := .object "java/util/LinkedList$Node") hx hb hts hown hE hk hH hS rfl in_J29 tyJ29_ok nmJ29 rfl (by decide) (hts _ q1685) (fun _ h9 => h9) rfl rfl rfl rfl ea7 e11 dJ4_clear_26 (fun H locs hH hS => ?_)
      refine g_aload_n (pc := 29) (o := v8) hx hb dJ4_clear_29 rfl (lv_at hl 0 rfl) ?_
      refine g_astore_n (pc := 30) (i := 1) (o := v8) (lv' := [(1, va_rf v8), (2, va_rf v8), (0, .ref l0)]) hx hb dJ4_clear_30 rfl hl (by decide) rfl (fun ls hl => ?_)
      refine lv_goto (pc := 31) (tgt := 5) hx hb dJ4_clear_31 (by decide) ?_
      exact ih l0 v8 S11 _ _ ls _ _ _ _ hkc hks hH hS (lv_sub hl [2, 0] rfl) hf
def fJ4_clear (G : gG) (l0 : Nat) (S : gS) : gO Unit :=
  bd (rdR S l0 16 2) fun v1 =>
  fJ4_clear_b5 G FU l0 v1 S
theorem wJ4_clear_b0 (hk : rOK Rp) (hc : gC p s m args meth c G RJ4 "clear" cJ4_clear 3 (none)) (l0 : Nat) (S : gS) (H : Heap) (locs : List Loc) (ls : Array Slot) (kc ks C N : Nat) (hkc : kc + C ≤ mc) (hks : ks + N ≤ ms) (hH : hp G Rp S H) (hS : va_S G.2.2.2 s.heap H locs) (hl : lv_has ls 3 [(0, .ref l0)]) (hf : fJ4_clear G l0 S = some (r, Sf, C, N)) : W p l e (gR 1 60 mc ms) s m args below meth c H locs kc ks (gQ below G Rp none Sf args s mc ms) (F0 m 0 ls []) := by
  obtain ⟨hx, hb, hr, hlk, hml, hown, hts, hE, hA, hnm⟩ := hc
  have hc : gC p s m args meth c G RJ4 "clear" cJ4_clear 3 (none) := ⟨hx, hb, hr, hlk, hml, hown, hts, hE, hA, hnm⟩
  unfold fJ4_clear at hf
  refine lv_aload_n (pc := 0) hx hb dJ4_clear_0 rfl (lv_at hl 0 rfl) ?_
  obtain ⟨v1, e1, hf⟩ := bdo hf
  refine g_get (pc := 1) (o := (some l0)) (a := l0) (ci := 16) (k := 2) (v := va_rf v1) (C := RJ4) (T := TJ4) (N := 4) hx hb hts hown hE hk hH in_J4 rfl (by decide) (hts _ q221) (fun _ h9 => h9) rfl (rdR_o e1) dJ4_clear_1 ?_
  refine g_astore_n (pc := 4) (i := 1) (o := v1) (lv' := [(1, va_rf v1), (0, .ref l0)]) hx hb dJ4_clear_4 rfl hl (by decide) rfl (fun ls hl => ?_)
  exact wJ4_clear_b5 hk hc FU l0 v1 S _ _ ls _ _ _ _ hkc hks hH hS (lv_sub hl [1, 0] rfl) hf
theorem mJ4_clear {l : Launch} {G : gG} {Rp : gM → gM → Nat → Prop} (hk : rOK Rp) {S S2 : gS} {r2 : Unit} {C N : Nat} {l0 : Nat} (hf : fJ4_clear G l0 S = some (r2, S2, C, N)) : gMet l yJ4_clear cJ4_clear 3 (none) 1 60 G Rp [.ref l0] S none S2 C N := by
  refine g_start (by decide) (Nat.le_of_ble_eq_true rfl) (fun p e s m args below meth c ls hc hl hH => ?_)
  have hl : lv_has ls 3 [(0, .ref l0)] := hl
  exact wJ4_clear_b0 hk hc l0 S _ _ ls 0 0 C N (by omega) (by omega) hH va_S.rf (lv_sub hl [0] rfl) hf
end
section
variable {r : Option Nat} {Sf : gS}
def fJ4_unlink_b64 (G : gG) (l0 : Nat) (l1 : Option Nat) (l2 : Option Nat) (S : gS) : gO (Option Nat) :=
  bd l1 fun a1 =>
  bd (wr S a1 20 0 (.null)) fun S2 =>
  bd (rdI S2 l0 16 1) fun v3 =>
  bd (wr S2 l0 16 1 (.int (v3 - (nI 1)))) fun S4 =>
  bd (rdI S4 l0 16 0) fun v5 =>
  bd (wr S4 l0 16 0 (.int (v5 + (nI 1)))) fun S6 =>
  some (l2, S6, 0, 0)
theorem wJ4_unlink_b64 (hk : rOK Rp) (hc : gC p s m args meth c G RJ4 "unlink" cJ4_unlink 5 (some (.object "java/lang/Object"))) (l0 : Nat) (l1 : Option Nat) (l2 : Option Nat) (S : gS) (H : Heap) (locs : List Loc) (ls : Array Slot) (kc ks C N : Nat) (hkc : kc + C ≤ mc) (hks : ks + N ≤ ms) (hH : hp G Rp S H) (hS : va_S G.2.2.2 s.heap H locs) (hl : lv_has ls 5 [(0, .ref l0), (1, va_rf l1), (2, va_rf l2)]) (hf : fJ4_unlink_b64 G l0 l1 l2 S = some (r, Sf, C, N)) : W p l e (gR 1 60 mc ms) s m args below meth c H locs kc ks (gQ below G Rp (some (va_rf r)) Sf args s mc ms) (F0 m 64 ls []) := by
  obtain ⟨hx, hb, hr, hlk, hml, hown, hts, hE, hA, hnm⟩ := hc
  have hc : gC p s m args meth c G RJ4 "unlink" cJ4_unlink 5 (some (.object "java/lang/Object")) := ⟨hx, hb, hr, hlk, hml, hown, hts, hE, hA, hnm⟩
  unfold fJ4_unlink_b64 at hf
  refine g_aload_n (pc := 64) (o := l1) hx hb dJ4_unlink_64 rfl (lv_at hl 1 rfl) ?_
  refine lv_null (pc := 65) hx hb dJ4_unlink_65 ?_
  obtain ⟨a1, ea1, hf⟩ := bdo hf
  obtain ⟨S2, e2, hf⟩ := bdo hf
  refine g_put (pc := 66) (o := l1) (a := a1) (ci := 20) (k := 0) (v := .null) (C := RJ29) (T := TJ29) (N := 3) (ty := .object "java/lang/Object") hx hb hts hown hE hk hH hS rfl in_J29 tyJ29_ok nmJ29 rfl (by decide) (hts _ q1680) (fun _ h9 => h9) rfl rfl rfl rfl ea1 e2 dJ4_unlink_66 (fun H locs hH hS => ?_)
  refine lv_aload_n (pc := 69) hx hb dJ4_unlink_69 rfl (lv_at hl 0 rfl) ?_
  refine lv_dup (pc := 70) hx hb dJ4_unlink_70 rfl ?_
  obtain ⟨v3, e3, hf⟩ := bdo hf
  refine g_get (pc := 71) (o := (some l0)) (a := l0) (ci := 16) (k := 1) (v := .int v3) (C := RJ4) (T := TJ4) (N := 4) hx hb hts hown hE hk hH in_J4 rfl (by decide) (hts _ q219) (fun _ h9 => h9) rfl (rdI_o e3) dJ4_unlink_71 ?_
  refine lv_iconst (pc := 74) (v := nI 1) hx hb dJ4_unlink_74 rfl ?_
  refine lv_isub (pc := 75) hx hb dJ4_unlink_75 ?_
  obtain ⟨S4, e4, hf⟩ := bdo hf
  refine g_put (pc := 76) (o := (some l0)) (a := l0) (ci := 16) (k := 1) (v := .int (v3 - (nI 1))) (C := RJ4) (T := TJ4) (N := 4) (ty := .int) hx hb hts hown hE hk hH hS rfl in_J4 tyJ4_ok nmJ4 rfl (by decide) (hts _ q219) (fun _ h9 => h9) rfl rfl rfl rfl rfl e4 dJ4_unlink_76 (fun H locs hH hS => ?_)
  refine lv_aload_n (pc := 79) hx hb dJ4_unlink_79 rfl (lv_at hl 0 rfl) ?_
  refine lv_dup (pc := 80) hx hb dJ4_unlink_80 rfl ?_
  obtain ⟨v5, e5, hf⟩ := bdo hf
  refine g_get (pc := 81) (o := (some l0)) (a := l0) (ci := 16) (k := 0) (v := .int v5) (C := RJ4) (T := TJ4) (N := 4) hx hb hts hown hE hk hH in_J4 rfl (by decide) (hts _ q201) (fun x h9 => u_same (hts _ q197) x h9) rfl (rdI_o e5) dJ4_unlink_81 ?_
  refine lv_iconst (pc := 84) (v := nI 1) hx hb dJ4_unlink_84 rfl ?_
  refine lv_iadd (pc := 85) hx hb dJ4_unlink_85 ?_
  obtain ⟨S6, e6, hf⟩ := bdo hf
  refine g_put (pc := 86) (o := (some l0)) (a := l0) (ci := 16) (k := 0) (v := .int (v5 + (nI 1))) (C := RJ4) (T := TJ4) (N := 4) (ty := .int) hx hb hts hown hE hk hH hS rfl in_J4 tyJ4_ok nmJ4 rfl (by decide) (hts _ q201) (fun x h9 => u_same (hts _ q197) x h9) rfl rfl rfl rfl rfl e6 dJ4_unlink_86 (fun H locs hH hS => ?_)
  refine g_aload_n (pc := 89) (o := l2) hx hb dJ4_unlink_89 rfl (lv_at hl 2 rfl) ?_
  exact g_aret (pc := 90) (v := l2) hx hb hr (Or.inl ⟨_, rfl⟩) hlk hH hS hkc hks hf dJ4_unlink_90
def fJ4_unlink_b40 (G : gG) (l0 : Nat) (l1 : Option Nat) (l2 : Option Nat) (l3 : Option Nat) (l4 : Option Nat) (S : gS) : gO (Option Nat) :=
  if l3 = none then
    bd (wr S l0 16 3 (va_rf l4)) fun S6 =>
    fJ4_unlink_b64 G l0 l1 l2 S6
  else
    bd l3 fun a2 =>
    bd (wr S a2 20 2 (va_rf l4)) fun S3 =>
    bd l1 fun a4 =>
    bd (wr S3 a4 20 1 (.null)) fun S5 =>
    fJ4_unlink_b64 G l0 l1 l2 S5
theorem wJ4_unlink_b40 (hk : rOK Rp) (hc : gC p s m args meth c G RJ4 "unlink" cJ4_unlink 5 (some (.object "java/lang/Object"))) (l0 : Nat) (l1 : Option Nat) (l2 : Option Nat) (l3 : Option Nat) (l4 : Option Nat) (S : gS) (H : Heap) (locs : List Loc) (ls : Array Slot) (kc ks C N : Nat) (hkc : kc + C ≤ mc) (hks : ks + N ≤ ms) (hH : hp G Rp S H) (hS : va_S G.2.2.2 s.heap H locs) (hl : lv_has ls 5 [(0, .ref l0), (1, va_rf l1), (2, va_rf l2), (3, va_rf l3), (4, va_rf l4)]) (hf : fJ4_unlink_b40 G l0 l1 l2 l3 l4 S = some (r, Sf, C, N)) : W p l e (gR 1 60 mc ms) s m args below meth c H locs kc ks (gQ below G Rp (some (va_rf r)) Sf args s mc ms) (F0 m 40 ls []) := by
  obtain ⟨hx, hb, hr, hlk, hml, hown, hts, hE, hA, hnm⟩ := hc
  have hc : gC p s m args meth c G RJ4 "unlink" cJ4_unlink 5 (some (.object "java/lang/Object")) := ⟨hx, hb, hr, hlk, hml, hown, hts, hE, hA, hnm⟩
  unfold fJ4_unlink_b40 at hf
  refine g_aload_n (pc := 40) (o := l3) hx hb dJ4_unlink_40 rfl (lv_at hl 3 rfl) ?_
  refine g_ifnonnull (pc := 41) (o := l3) (tgt := 53) hx hb dJ4_unlink_41 (by decide) (fun c1 => ?_) (fun c1 => ?_)
  · rw [if_neg c1] at hf
    refine g_aload_n (pc := 53) (o := l3) hx hb dJ4_unlink_53 rfl (lv_at hl 3 rfl) ?_
    refine g_aload (pc := 54) (o := l4) hx hb dJ4_unlink_54 (lv_at hl 4 rfl) ?_
    obtain ⟨a2, ea2, hf⟩ := bdo hf
    obtain ⟨S3, e3, hf⟩ := bdo hf
    refine g_put (pc := 56) (o := l3) (a := a2) (ci := 20) (k := 2) (v := va_rf l4) (C := RJ29) (T := TJ29) (N := 3) (ty := .object "java/util/LinkedList$Node") hx hb hts hown hE hk hH hS rfl in_J29 tyJ29_ok nmJ29 rfl (by decide) (hts _ q1685) (fun _ h9 => h9) rfl rfl (nar_rf _ _) (fit_rf _ _) ea2 e3 dJ4_unlink_56 (fun H locs hH hS => ?_)
    refine g_aload_n (pc := 59) (o := l1) hx hb dJ4_unlink_59 rfl (lv_at hl 1 rfl) ?_
    refine lv_null (pc := 60) hx hb dJ4_unlink_60 ?_
    obtain ⟨a4, ea4, hf⟩ := bdo hf
    obtain ⟨S5, e5, hf⟩ := bdo hf
    refine g_put (pc := 61) (o := l1) (a := a4) (ci := 20) (k := 1) (v := .null) (C := RJ29) (T := TJ29) (N := 3) (ty := .object "java/util/LinkedList$Node") hx hb hts hown hE hk hH hS rfl in_J29 tyJ29_ok nmJ29 rfl (by decide) (hts _ q1683) (fun _ h9 => h9) rfl rfl rfl rfl ea4 e5 dJ4_unlink_61 (fun H locs hH hS => ?_)
    exact wJ4_unlink_b64 hk hc l0 l1 l2 S5 _ _ ls _ _ _ _ hkc hks hH hS (lv_sub hl [0, 1, 2] rfl) hf
  · rw [if_pos c1] at hf
    refine lv_aload_n (pc := 44) hx hb dJ4_unlink_44 rfl (lv_at hl 0 rfl) ?_
    refine g_aload (pc := 45) (o := l4) hx hb dJ4_unlink_45 (lv_at hl 4 rfl) ?_
    obtain ⟨S6, e6, hf⟩ := bdo hf
    refine g_put (pc := 47) (o := (some l0)) (a := l0) (ci := 16) (k := 3) (v := va_rf l4) (C := RJ4) (T := TJ4) (N := 4) (ty := .object "java/util/LinkedList$Node") hx hb hts hown hE hk hH hS rfl in_J4 tyJ4_ok nmJ4 rfl (by decide) (hts _ q222) (fun _ h9 => h9) rfl rfl (nar_rf _ _) (fit_rf _ _) rfl e6 dJ4_unlink_47 (fun H locs hH hS => ?_)
    refine lv_goto (pc := 50) (tgt := 64) hx hb dJ4_unlink_50 (by decide) ?_
    exact wJ4_unlink_b64 hk hc l0 l1 l2 S6 _ _ ls _ _ _ _ hkc hks hH hS (lv_sub hl [0, 1, 2] rfl) hf
def fJ4_unlink (G : gG) (l0 : Nat) (l1 : Option Nat) (S : gS) : gO (Option Nat) :=
  bd l1 fun a1 =>
  bd (rdR S a1 20 0) fun v2 =>
  bd (rdR S a1 20 1) fun v3 =>
  bd (rdR S a1 20 2) fun v4 =>
  if v4 = none then
    bd (wr S l0 16 2 (va_rf v3)) fun S9 =>
    fJ4_unlink_b40 G l0 l1 v2 v3 v4 S9
  else
    bd v4 fun a6 =>
    bd (wr S a6 20 1 (va_rf v3)) fun S7 =>
    bd (wr S7 a1 20 2 (.null)) fun S8 =>
    fJ4_unlink_b40 G l0 l1 v2 v3 v4 S8
theorem wJ4_unlink_b0 (hk : rOK Rp) (hc : gC p s m args meth c G RJ4 "unlink" cJ4_unlink 5 (some (.object "java/lang/Object"))) (l0 : Nat) (l1 : Option Nat) (S : gS) (H : Heap) (locs : List Loc) (ls : Array Slot) (kc ks C N : Nat) (hkc : kc + C ≤ mc) (hks : ks + N ≤ ms) (hH : hp G Rp S H) (hS : va_S G.2.2.2 s.heap H locs) (hl : lv_has ls 5 [(0, .ref l0), (1, va_rf l1)]) (hf : fJ4_unlink G l0 l1 S = some (r, Sf, C, N)) : W p l e (gR 1 60 mc ms) s m args below meth c H locs kc ks (gQ below G Rp (some (va_rf r)) Sf args s mc ms) (F0 m 0 ls []) := by
  obtain ⟨hx, hb, hr, hlk, hml, hown, hts, hE, hA, hnm⟩ := hc
  have hc : gC p s m args meth c G RJ4 "unlink" cJ4_unlink 5 (some (.object "java/lang/Object")) := ⟨hx, hb, hr, hlk, hml, hown, hts, hE, hA, hnm⟩
  unfold fJ4_unlink at hf
  refine g_aload_n (pc := 0) (o := l1) hx hb dJ4_unlink_0 rfl (lv_at hl 1 rfl) ?_
  obtain ⟨a1, ea1, hf⟩ := bdo hf
  obtain ⟨v2, e2, hf⟩ := bdo hf
  refine g_get (pc := 1) (o := l1) (a := a1) (ci := 20) (k := 0) (v := va_rf v2) (C := RJ29) (T := TJ29) (N := 3) hx hb hts hown hE hk hH in_J29 rfl (by decide) (hts _ q1680) (fun _ h9 => h9) ea1 (rdR_o e2) dJ4_unlink_1 ?_
  refine g_astore_n (pc := 4) (i := 2) (o := v2) (lv' := [(2, va_rf v2), (0, .ref l0), (1, va_rf l1)]) hx hb dJ4_unlink_4 rfl hl (by decide) (by simp [va_rf_cat, cat_i, cat_j, cat_r] <;> rfl) (fun ls hl => ?_)
  refine g_aload_n (pc := 5) (o := l1) hx hb dJ4_unlink_5 rfl (lv_at hl 2 rfl) ?_
  obtain ⟨v3, e3, hf⟩ := bdo hf
  refine g_get (pc := 6) (o := l1) (a := a1) (ci := 20) (k := 1) (v := va_rf v3) (C := RJ29) (T := TJ29) (N := 3) hx hb hts hown hE hk hH in_J29 rfl (by decide) (hts _ q1683) (fun _ h9 => h9) ea1 (rdR_o e3) dJ4_unlink_6 ?_
  refine g_astore_n (pc := 9) (i := 3) (o := v3) (lv' := [(3, va_rf v3), (2, va_rf v2), (0, .ref l0), (1, va_rf l1)]) hx hb dJ4_unlink_9 rfl hl (by decide) (by simp [va_rf_cat, cat_i, cat_j, cat_r] <;> rfl) (fun ls hl => ?_)
  refine g_aload_n (pc := 10) (o := l1) hx hb dJ4_unlink_10 rfl (lv_at hl 3 rfl) ?_
  obtain ⟨v4, e4, hf⟩ := bdo hf
  refine g_get (pc := 11) (o := l1) (a := a1) (ci := 20) (k := 2) (v := va_rf v4) (C := RJ29) (T := TJ29) (N := 3) hx hb hts hown hE hk hH in_J29 rfl (by decide) (hts _ q1685) (fun _ h9 => h9) ea1 (rdR_o e4) dJ4_unlink_11 ?_
  refine g_astore (pc := 14) (i := 4) (o := v4) (lv' := [(4, va_rf v4), (3, va_rf v3), (2, va_rf v2), (0, .ref l0), (1, va_rf l1)]) hx hb dJ4_unlink_14 hl (by decide) (by simp [va_rf_cat, cat_i, cat_j, cat_r] <;> rfl) (fun ls hl => ?_)
  refine g_aload (pc := 16) (o := v4) hx hb dJ4_unlink_16 (lv_at hl 0 rfl) ?_
  refine g_ifnonnull (pc := 18) (o := v4) (tgt := 29) hx hb dJ4_unlink_18 (by decide) (fun c5 => ?_) (fun c5 => ?_)
  · rw [if_neg c5] at hf
    refine g_aload (pc := 29) (o := v4) hx hb dJ4_unlink_29 (lv_at hl 0 rfl) ?_
    refine g_aload_n (pc := 31) (o := v3) hx hb dJ4_unlink_31 rfl (lv_at hl 1 rfl) ?_
    obtain ⟨a6, ea6, hf⟩ := bdo hf
    obtain ⟨S7, e7, hf⟩ := bdo hf
    refine g_put (pc := 32) (o := v4) (a := a6) (ci := 20) (k := 1) (v := va_rf v3) (C := RJ29) (T := TJ29) (N := 3) (ty := .object "java/util/LinkedList$Node") hx hb hts hown hE hk hH hS rfl in_J29 tyJ29_ok nmJ29 rfl (by decide) (hts _ q1683) (fun _ h9 => h9) rfl rfl (nar_rf _ _) (fit_rf _ _) ea6 e7 dJ4_unlink_32 (fun H locs hH hS => ?_)
    refine g_aload_n (pc := 35) (o := l1) hx hb dJ4_unlink_35 rfl (lv_at hl 4 rfl) ?_
    refine lv_null (pc := 36) hx hb dJ4_unlink_36 ?_
    obtain ⟨S8, e8, hf⟩ := bdo hf
    refine g_put (pc := 37) (o := l1) (a := a1) (ci := 20) (k := 2) (v := .null) (C := RJ29) (T := TJ29) (N := 3) (ty := .object "java/util/LinkedList$Node") hx hb hts hown hE hk hH hS rfl in_J29 tyJ29_ok nmJ29 rfl (by decide) (hts _ q1685) (fun _ h9 => h9) rfl rfl rfl rfl ea1 e8 dJ4_unlink_37 (fun H locs hH hS => ?_)
    exact wJ4_unlink_b40 hk hc l0 l1 v2 v3 v4 S8 _ _ ls _ _ _ _ hkc hks hH hS (lv_sub hl [3, 4, 2, 1, 0] rfl) hf
  · rw [if_pos c5] at hf
    refine lv_aload_n (pc := 21) hx hb dJ4_unlink_21 rfl (lv_at hl 3 rfl) ?_
    refine g_aload_n (pc := 22) (o := v3) hx hb dJ4_unlink_22 rfl (lv_at hl 1 rfl) ?_
    obtain ⟨S9, e9, hf⟩ := bdo hf
    refine g_put (pc := 23) (o := (some l0)) (a := l0) (ci := 16) (k := 2) (v := va_rf v3) (C := RJ4) (T := TJ4) (N := 4) (ty := .object "java/util/LinkedList$Node") hx hb hts hown hE hk hH hS rfl in_J4 tyJ4_ok nmJ4 rfl (by decide) (hts _ q221) (fun _ h9 => h9) rfl rfl (nar_rf _ _) (fit_rf _ _) rfl e9 dJ4_unlink_23 (fun H locs hH hS => ?_)
    refine lv_goto (pc := 26) (tgt := 40) hx hb dJ4_unlink_26 (by decide) ?_
    exact wJ4_unlink_b40 hk hc l0 l1 v2 v3 v4 S9 _ _ ls _ _ _ _ hkc hks hH hS (lv_sub hl [3, 4, 2, 1, 0] rfl) hf
theorem mJ4_unlink {l : Launch} {G : gG} {Rp : gM → gM → Nat → Prop} (hk : rOK Rp) {S S2 : gS} {r2 : Option Nat} {C N : Nat} {l0 : Nat} {l1 : Option Nat} (hf : fJ4_unlink G l0 l1 S = some (r2, S2, C, N)) : gMet l yJ4_unlink cJ4_unlink 5 (some (.object "java/lang/Object")) 1 60 G Rp [.ref l0, va_rf l1] S (some (va_rf r2)) S2 C N := by
  refine g_start (by decide) (by simp [lg_sl, va_rf_cat, cat_i, cat_j, cat_r]) (fun p e s m args below meth c ls hc hl hH => ?_)
  have hl : lv_has ls 5 [(0, .ref l0), (1, va_rf l1)] := by simpa [lv_args, va_rf_cat, cat_i, cat_j, cat_r] using hl
  exact wJ4_unlink_b0 hk hc l0 l1 S _ _ ls 0 0 C N (by omega) (by omega) hH va_S.rf (lv_sub hl [0, 1] rfl) hf
end
section
variable {r : Option Nat} {Sf : gS}
def fJ4_remove (G : gG) (l0 : Nat) (l1 : Int32) (S : gS) : gO (Option Nat) :=
  bd (chk S l0 16) fun _ =>
  gb (fJ4_checkElementIndex G l0 l1 S) fun _ S1 =>
  bd (chk S1 l0 16) fun _ =>
  gb (fJ4_node G l0 l1 S1) fun v2 S2 =>
  bd (chk S2 l0 16) fun _ =>
  gb (fJ4_unlink G l0 v2 S2) fun v3 S3 =>
  some (v3, S3, 0, 0)
theorem wJ4_remove_b0 (hk : rOK Rp) (hc : gC p s m args meth c G RJ4 "remove" cJ4_remove 2 (some (.object "java/lang/Object"))) (l0 : Nat) (l1 : Int32) (S : gS) (H : Heap) (locs : List Loc) (ls : Array Slot) (kc ks C N : Nat) (hkc : kc + C ≤ mc) (hks : ks + N ≤ ms) (hH : hp G Rp S H) (hS : va_S G.2.2.2 s.heap H locs) (hl : lv_has ls 2 [(0, .ref l0), (1, .int l1)]) (hf : fJ4_remove G l0 l1 S = some (r, Sf, C, N)) : W p l e (gR 3 102 mc ms) s m args below meth c H locs kc ks (gQ below G Rp (some (va_rf r)) Sf args s mc ms) (F0 m 0 ls []) := by
  obtain ⟨hx, hb, hr, hlk, hml, hown, hts, hE, hA, hnm⟩ := hc
  have hc : gC p s m args meth c G RJ4 "remove" cJ4_remove 2 (some (.object "java/lang/Object")) := ⟨hx, hb, hr, hlk, hml, hown, hts, hE, hA, hnm⟩
  unfold fJ4_remove at hf
  refine lv_aload_n (pc := 0) hx hb dJ4_remove_0 rfl (lv_at hl 0 rfl) ?_
  refine lv_iload_n (pc := 1) hx hb dJ4_remove_1 rfl (lv_at hl 1 rfl) ?_
  obtain ⟨_, ek1, hf⟩ := bdo hf
  obtain ⟨_, S1, c1, n1, c2_1, n2_1, e1, hf, hC1, hN1⟩ := gbo hf
  refine g_callV (pc := 2) (o := (some l0)) (b := l0) (As := [.int l1]) (rest := []) (st1 := []) hc (mJ4_checkElementIndex hk (l0 := l0) (l1 := l1) e1) (cwV 1 hts (lw_V q584 q586 qs6 q103 q587) rfl rfl rfl jhdJ4_checkElementIndex ⟨Nat.le_of_ble_eq_true rfl, Nat.le_of_ble_eq_true rfl⟩) (g_recv hE hk hH (ci := 16) (q := (RJ4, TJ4, 4)) rfl (chk_o ek1).choose_spec) rfl rfl hl.1 rfl rfl (lv_room (Nat.le_of_ble_eq_true rfl)) dJ4_remove_2 hH hS (by omega) (by omega) (fun H locs hH hS => ?_)
  have hkc : kc + c1 + c2_1 ≤ mc := by omega
  have hks : ks + n1 + n2_1 ≤ ms := by omega
  refine lv_aload_n (pc := 5) hx hb dJ4_remove_5 rfl (lv_at hl 0 rfl) ?_
  refine lv_aload_n (pc := 6) hx hb dJ4_remove_6 rfl (lv_at hl 0 rfl) ?_
  refine lv_iload_n (pc := 7) hx hb dJ4_remove_7 rfl (lv_at hl 1 rfl) ?_
  obtain ⟨_, ek2, hf⟩ := bdo hf
  obtain ⟨v2, S2, c2, n2, c2_2, n2_2, e2, hf, hC2, hN2⟩ := gbo hf
  refine g_callV (pc := 8) (o := (some l0)) (b := l0) (As := [.int l1]) (rest := [.ref l0]) (st1 := [va_rf v2, .ref l0]) hc (mJ4_node hk (l0 := l0) (l1 := l1) e2) (cwV 1 hts (lw_V q844 q845 q846 q103 q847) rfl rfl rfl jhdJ4_node ⟨Nat.le_of_ble_eq_true rfl, Nat.le_of_ble_eq_true rfl⟩) (g_recv hE hk hH (ci := 16) (q := (RJ4, TJ4, 4)) rfl (chk_o ek2).choose_spec) rfl rfl hl.1 rfl rfl (lv_room (Nat.le_of_ble_eq_true rfl)) dJ4_remove_8 hH hS (by omega) (by omega) (fun H locs hH hS => ?_)
  have hkc : kc + c1 + c2 + c2_2 ≤ mc := by omega
  have hks : ks + n1 + n2 + n2_2 ≤ ms := by omega
  obtain ⟨_, ek3, hf⟩ := bdo hf
  obtain ⟨v3, S3, c3, n3, c2_3, n2_3, e3, hf, hC3, hN3⟩ := gbo hf
  refine g_callV (pc := 11) (o := (some l0)) (b := l0) (As := [va_rf v2]) (rest := []) (st1 := [va_rf v3]) hc (mJ4_unlink hk (l0 := l0) (l1 := v2) e3) (cwV 1 hts (lw_V q1952 q1953 q1954 q103 q1955) rfl rfl rfl jhdJ4_unlink ⟨Nat.le_of_ble_eq_true rfl, Nat.le_of_ble_eq_true rfl⟩) (g_recv hE hk hH (ci := 16) (q := (RJ4, TJ4, 4)) rfl (chk_o ek3).choose_spec) rfl rfl hl.1 rfl rfl (lv_room (Nat.le_of_ble_eq_true rfl)) dJ4_remove_11 hH hS (by omega) (by omega) (fun H locs hH hS => ?_)
  have hkc : kc + c1 + c2 + c3 + c2_3 ≤ mc := by omega
  have hks : ks + n1 + n2 + n3 + n2_3 ≤ ms := by omega
  exact g_aret (pc := 14) (v := v3) hx hb hr (Or.inl ⟨_, rfl⟩) hlk hH hS hkc hks hf dJ4_remove_14
theorem mJ4_remove {l : Launch} {G : gG} {Rp : gM → gM → Nat → Prop} (hk : rOK Rp) {S S2 : gS} {r2 : Option Nat} {C N : Nat} {l0 : Nat} {l1 : Int32} (hf : fJ4_remove G l0 l1 S = some (r2, S2, C, N)) : gMet l yJ4_remove cJ4_remove 2 (some (.object "java/lang/Object")) 3 102 G Rp [.ref l0, .int l1] S (some (va_rf r2)) S2 C N := by
  refine g_start (by decide) (Nat.le_of_ble_eq_true rfl) (fun p e s m args below meth c ls hc hl hH => ?_)
  have hl : lv_has ls 2 [(0, .ref l0), (1, .int l1)] := hl
  exact wJ4_remove_b0 hk hc l0 l1 S _ _ ls 0 0 C N (by omega) (by omega) hH va_S.rf (lv_sub hl [0, 1] rfl) hf
end
section
variable {r : Option Nat} {Sf : gS}
def fJ4_unlinkFirst_b42 (G : gG) (l0 : Nat) (l2 : Option Nat) (S : gS) : gO (Option Nat) :=
  bd (rdI S l0 16 1) fun v1 =>
  bd (wr S l0 16 1 (.int (v1 - (nI 1)))) fun S2 =>
  bd (rdI S2 l0 16 0) fun v3 =>
  bd (wr S2 l0 16 0 (.int (v3 + (nI 1)))) fun S4 =>
  some (l2, S4, 0, 0)
theorem wJ4_unlinkFirst_b42 (hk : rOK Rp) (hc : gC p s m args meth c G RJ4 "unlinkFirst" cJ4_unlinkFirst 4 (some (.object "java/lang/Object"))) (l0 : Nat) (l2 : Option Nat) (S : gS) (H : Heap) (locs : List Loc) (ls : Array Slot) (kc ks C N : Nat) (hkc : kc + C ≤ mc) (hks : ks + N ≤ ms) (hH : hp G Rp S H) (hS : va_S G.2.2.2 s.heap H locs) (hl : lv_has ls 4 [(0, .ref l0), (2, va_rf l2)]) (hf : fJ4_unlinkFirst_b42 G l0 l2 S = some (r, Sf, C, N)) : W p l e (gR 1 60 mc ms) s m args below meth c H locs kc ks (gQ below G Rp (some (va_rf r)) Sf args s mc ms) (F0 m 42 ls []) := by
  obtain ⟨hx, hb, hr, hlk, hml, hown, hts, hE, hA, hnm⟩ := hc
  have hc : gC p s m args meth c G RJ4 "unlinkFirst" cJ4_unlinkFirst 4 (some (.object "java/lang/Object")) := ⟨hx, hb, hr, hlk, hml, hown, hts, hE, hA, hnm⟩
  unfold fJ4_unlinkFirst_b42 at hf
  refine lv_aload_n (pc := 42) hx hb dJ4_unlinkFirst_42 rfl (lv_at hl 0 rfl) ?_
  refine lv_dup (pc := 43) hx hb dJ4_unlinkFirst_43 rfl ?_
  obtain ⟨v1, e1, hf⟩ := bdo hf
  refine g_get (pc := 44) (o := (some l0)) (a := l0) (ci := 16) (k := 1) (v := .int v1) (C := RJ4) (T := TJ4) (N := 4) hx hb hts hown hE hk hH in_J4 rfl (by decide) (hts _ q219) (fun _ h9 => h9) rfl (rdI_o e1) dJ4_unlinkFirst_44 ?_
  refine lv_iconst (pc := 47) (v := nI 1) hx hb dJ4_unlinkFirst_47 rfl ?_
  refine lv_isub (pc := 48) hx hb dJ4_unlinkFirst_48 ?_
  obtain ⟨S2, e2, hf⟩ := bdo hf
  refine g_put (pc := 49) (o := (some l0)) (a := l0) (ci := 16) (k := 1) (v := .int (v1 - (nI 1))) (C := RJ4) (T := TJ4) (N := 4) (ty := .int) hx hb hts hown hE hk hH hS rfl in_J4 tyJ4_ok nmJ4 rfl (by decide) (hts _ q219) (fun _ h9 => h9) rfl rfl rfl rfl rfl e2 dJ4_unlinkFirst_49 (fun H locs hH hS => ?_)
  refine lv_aload_n (pc := 52) hx hb dJ4_unlinkFirst_52 rfl (lv_at hl 0 rfl) ?_
  refine lv_dup (pc := 53) hx hb dJ4_unlinkFirst_53 rfl ?_
  obtain ⟨v3, e3, hf⟩ := bdo hf
  refine g_get (pc := 54) (o := (some l0)) (a := l0) (ci := 16) (k := 0) (v := .int v3) (C := RJ4) (T := TJ4) (N := 4) hx hb hts hown hE hk hH in_J4 rfl (by decide) (hts _ q201) (fun x h9 => u_same (hts _ q197) x h9) rfl (rdI_o e3) dJ4_unlinkFirst_54 ?_
  refine lv_iconst (pc := 57) (v := nI 1) hx hb dJ4_unlinkFirst_57 rfl ?_
  refine lv_iadd (pc := 58) hx hb dJ4_unlinkFirst_58 ?_
  obtain ⟨S4, e4, hf⟩ := bdo hf
  refine g_put (pc := 59) (o := (some l0)) (a := l0) (ci := 16) (k := 0) (v := .int (v3 + (nI 1))) (C := RJ4) (T := TJ4) (N := 4) (ty := .int) hx hb hts hown hE hk hH hS rfl in_J4 tyJ4_ok nmJ4 rfl (by decide) (hts _ q201) (fun x h9 => u_same (hts _ q197) x h9) rfl rfl rfl rfl rfl e4 dJ4_unlinkFirst_59 (fun H locs hH hS => ?_)
  refine g_aload_n (pc := 62) (o := l2) hx hb dJ4_unlinkFirst_62 rfl (lv_at hl 1 rfl) ?_
  exact g_aret (pc := 63) (v := l2) hx hb hr (Or.inl ⟨_, rfl⟩) hlk hH hS hkc hks hf dJ4_unlinkFirst_63
def fJ4_unlinkFirst (G : gG) (l0 : Nat) (l1 : Option Nat) (S : gS) : gO (Option Nat) :=
  bd l1 fun a1 =>
  bd (rdR S a1 20 0) fun v2 =>
  bd (rdR S a1 20 1) fun v3 =>
  bd (wr S a1 20 0 (.null)) fun S4 =>
  bd (wr S4 a1 20 1 (.null)) fun S5 =>
  bd (wr S5 l0 16 2 (va_rf v3)) fun S6 =>
  if v3 = none then
    bd (wr S6 l0 16 3 (.null)) fun S10 =>
    fJ4_unlinkFirst_b42 G l0 v2 S10
  else
    bd v3 fun a8 =>
    bd (wr S6 a8 20 2 (.null)) fun S9 =>
    fJ4_unlinkFirst_b42 G l0 v2 S9
theorem wJ4_unlinkFirst_b0 (hk : rOK Rp) (hc : gC p s m args meth c G RJ4 "unlinkFirst" cJ4_unlinkFirst 4 (some (.object "java/lang/Object"))) (l0 : Nat) (l1 : Option Nat) (S : gS) (H : Heap) (locs : List Loc) (ls : Array Slot) (kc ks C N : Nat) (hkc : kc + C ≤ mc) (hks : ks + N ≤ ms) (hH : hp G Rp S H) (hS : va_S G.2.2.2 s.heap H locs) (hl : lv_has ls 4 [(0, .ref l0), (1, va_rf l1)]) (hf : fJ4_unlinkFirst G l0 l1 S = some (r, Sf, C, N)) : W p l e (gR 1 60 mc ms) s m args below meth c H locs kc ks (gQ below G Rp (some (va_rf r)) Sf args s mc ms) (F0 m 0 ls []) := by
  obtain ⟨hx, hb, hr, hlk, hml, hown, hts, hE, hA, hnm⟩ := hc
  have hc : gC p s m args meth c G RJ4 "unlinkFirst" cJ4_unlinkFirst 4 (some (.object "java/lang/Object")) := ⟨hx, hb, hr, hlk, hml, hown, hts, hE, hA, hnm⟩
  unfold fJ4_unlinkFirst at hf
  refine g_aload_n (pc := 0) (o := l1) hx hb dJ4_unlinkFirst_0 rfl (lv_at hl 1 rfl) ?_
  obtain ⟨a1, ea1, hf⟩ := bdo hf
  obtain ⟨v2, e2, hf⟩ := bdo hf
  refine g_get (pc := 1) (o := l1) (a := a1) (ci := 20) (k := 0) (v := va_rf v2) (C := RJ29) (T := TJ29) (N := 3) hx hb hts hown hE hk hH in_J29 rfl (by decide) (hts _ q1680) (fun _ h9 => h9) ea1 (rdR_o e2) dJ4_unlinkFirst_1 ?_
  refine g_astore_n (pc := 4) (i := 2) (o := v2) (lv' := [(2, va_rf v2), (0, .ref l0), (1, va_rf l1)]) hx hb dJ4_unlinkFirst_4 rfl hl (by decide) (by simp [va_rf_cat, cat_i, cat_j, cat_r] <;> rfl) (fun ls hl => ?_)
  refine g_aload_n (pc := 5) (o := l1) hx hb dJ4_unlinkFirst_5 rfl (lv_at hl 2 rfl) ?_
  obtain ⟨v3, e3, hf⟩ := bdo hf
  refine g_get (pc := 6) (o := l1) (a := a1) (ci := 20) (k := 1) (v := va_rf v3) (C := RJ29) (T := TJ29) (N := 3) hx hb hts hown hE hk hH in_J29 rfl (by decide) (hts _ q1683) (fun _ h9 => h9) ea1 (rdR_o e3) dJ4_unlinkFirst_6 ?_
  refine g_astore_n (pc := 9) (i := 3) (o := v3) (lv' := [(3, va_rf v3), (2, va_rf v2), (0, .ref l0), (1, va_rf l1)]) hx hb dJ4_unlinkFirst_9 rfl hl (by decide) (by simp [va_rf_cat, cat_i, cat_j, cat_r] <;> rfl) (fun ls hl => ?_)
  refine g_aload_n (pc := 10) (o := l1) hx hb dJ4_unlinkFirst_10 rfl (lv_at hl 3 rfl) ?_
  refine lv_null (pc := 11) hx hb dJ4_unlinkFirst_11 ?_
  obtain ⟨S4, e4, hf⟩ := bdo hf
  refine g_put (pc := 12) (o := l1) (a := a1) (ci := 20) (k := 0) (v := .null) (C := RJ29) (T := TJ29) (N := 3) (ty := .object "java/lang/Object") hx hb hts hown hE hk hH hS rfl in_J29 tyJ29_ok nmJ29 rfl (by decide) (hts _ q1680) (fun _ h9 => h9) rfl rfl rfl rfl ea1 e4 dJ4_unlinkFirst_12 (fun H locs hH hS => ?_)
  refine g_aload_n (pc := 15) (o := l1) hx hb dJ4_unlinkFirst_15 rfl (lv_at hl 3 rfl) ?_
  refine lv_null (pc := 16) hx hb dJ4_unlinkFirst_16 ?_
  obtain ⟨S5, e5, hf⟩ := bdo hf
  refine g_put (pc := 17) (o := l1) (a := a1) (ci := 20) (k := 1) (v := .null) (C := RJ29) (T := TJ29) (N := 3) (ty := .object "java/util/LinkedList$Node") hx hb hts hown hE hk hH hS rfl in_J29 tyJ29_ok nmJ29 rfl (by decide) (hts _ q1683) (fun _ h9 => h9) rfl rfl rfl rfl ea1 e5 dJ4_unlinkFirst_17 (fun H locs hH hS => ?_)
  refine lv_aload_n (pc := 20) hx hb dJ4_unlinkFirst_20 rfl (lv_at hl 2 rfl) ?_
  refine g_aload_n (pc := 21) (o := v3) hx hb dJ4_unlinkFirst_21 rfl (lv_at hl 0 rfl) ?_
  obtain ⟨S6, e6, hf⟩ := bdo hf
  refine g_put (pc := 22) (o := (some l0)) (a := l0) (ci := 16) (k := 2) (v := va_rf v3) (C := RJ4) (T := TJ4) (N := 4) (ty := .object "java/util/LinkedList$Node") hx hb hts hown hE hk hH hS rfl in_J4 tyJ4_ok nmJ4 rfl (by decide) (hts _ q221) (fun _ h9 => h9) rfl rfl (nar_rf _ _) (fit_rf _ _) rfl e6 dJ4_unlinkFirst_22 (fun H locs hH hS => ?_)
  refine g_aload_n (pc := 25) (o := v3) hx hb dJ4_unlinkFirst_25 rfl (lv_at hl 0 rfl) ?_
  refine g_ifnonnull (pc := 26) (o := v3) (tgt := 37) hx hb dJ4_unlinkFirst_26 (by decide) (fun c7 => ?_) (fun c7 => ?_)
  · rw [if_neg c7] at hf
    refine g_aload_n (pc := 37) (o := v3) hx hb dJ4_unlinkFirst_37 rfl (lv_at hl 0 rfl) ?_
    refine lv_null (pc := 38) hx hb dJ4_unlinkFirst_38 ?_
    obtain ⟨a8, ea8, hf⟩ := bdo hf
    obtain ⟨S9, e9, hf⟩ := bdo hf
    refine g_put (pc := 39) (o := v3) (a := a8) (ci := 20) (k := 2) (v := .null) (C := RJ29) (T := TJ29) (N := 3) (ty := .object "java/util/LinkedList$Node") hx hb hts hown hE hk hH hS rfl in_J29 tyJ29_ok nmJ29 rfl (by decide) (hts _ q1685) (fun _ h9 => h9) rfl rfl rfl rfl ea8 e9 dJ4_unlinkFirst_39 (fun H locs hH hS => ?_)
    exact wJ4_unlinkFirst_b42 hk hc l0 v2 S9 _ _ ls _ _ _ _ hkc hks hH hS (lv_sub hl [2, 1] rfl) hf
  · rw [if_pos c7] at hf
    refine lv_aload_n (pc := 29) hx hb dJ4_unlinkFirst_29 rfl (lv_at hl 2 rfl) ?_
    refine lv_null (pc := 30) hx hb dJ4_unlinkFirst_30 ?_
    obtain ⟨S10, e10, hf⟩ := bdo hf
    refine g_put (pc := 31) (o := (some l0)) (a := l0) (ci := 16) (k := 3) (v := .null) (C := RJ4) (T := TJ4) (N := 4) (ty := .object "java/util/LinkedList$Node") hx hb hts hown hE hk hH hS rfl in_J4 tyJ4_ok nmJ4 rfl (by decide) (hts _ q222) (fun _ h9 => h9) rfl rfl rfl rfl rfl e10 dJ4_unlinkFirst_31 (fun H locs hH hS => ?_)
    refine lv_goto (pc := 34) (tgt := 42) hx hb dJ4_unlinkFirst_34 (by decide) ?_
    exact wJ4_unlinkFirst_b42 hk hc l0 v2 S10 _ _ ls _ _ _ _ hkc hks hH hS (lv_sub hl [2, 1] rfl) hf
theorem mJ4_unlinkFirst {l : Launch} {G : gG} {Rp : gM → gM → Nat → Prop} (hk : rOK Rp) {S S2 : gS} {r2 : Option Nat} {C N : Nat} {l0 : Nat} {l1 : Option Nat} (hf : fJ4_unlinkFirst G l0 l1 S = some (r2, S2, C, N)) : gMet l yJ4_unlinkFirst cJ4_unlinkFirst 4 (some (.object "java/lang/Object")) 1 60 G Rp [.ref l0, va_rf l1] S (some (va_rf r2)) S2 C N := by
  refine g_start (by decide) (by simp [lg_sl, va_rf_cat, cat_i, cat_j, cat_r]) (fun p e s m args below meth c ls hc hl hH => ?_)
  have hl : lv_has ls 4 [(0, .ref l0), (1, va_rf l1)] := by simpa [lv_args, va_rf_cat, cat_i, cat_j, cat_r] using hl
  exact wJ4_unlinkFirst_b0 hk hc l0 l1 S _ _ ls 0 0 C N (by omega) (by omega) hH va_S.rf (lv_sub hl [0, 1] rfl) hf
end
end
